/-! RENAMING: what is kept, all -/
set_option maxRecDepth 100000
section KREN3
variable {N : Nat}
theorem KI.app {A : AS} (w : KI N A) {f : FL} (hf : bfOk A f) (hn : (aFree A).length + cntD (aBuf A) + (if f.1 12 = -1 then 0 else 1) ≤ 16) (hz : ∀ n, aS A 6 = nI n → n ≤ 16 → (aBuf A).length ≤ n → (aBuf A).length + 1 ≤ n) (hq : f.1 14 = 113 → ∀ n, aS A 7 = nI n → n ≤ 8 → aQueued A ≤ n → aQueued A + 1 ≤ n) : KI N (wBuf A (aBuf A ++ [f])) := by
  have el : (aBuf A ++ [f]).length = (aBuf A).length + 1 := by rw [List.length_append]; rfl
  have eq : aQueued (wBuf A (aBuf A ++ [f])) = aQueued A + (if f.1 14 = 113 then 1 else 0) := by
    show ((aBuf A ++ [f]).filter _).length = _
    rw [List.filter_append, List.length_append]
    congr 1
    rw [List.filter_cons]
    by_cases c : f.1 14 = 113
    · rw [if_pos (decide_eq_true c), if_pos c]; rfl
    · rw [if_neg (fun z => c (of_decide_eq_true z)), if_neg c]; rfl
  refine ⟨w.p, fun g hg => ?_, ?_, w.m, w.w, ?_, ?_, w.h, w.i, w.k, w.c, w.l⟩
  · rcases List.mem_append.mp (show g ∈ aBuf A ++ [f] from hg) with z | z
    · exact w.b g z
    · rw [List.mem_singleton.mp z]; exact hf
  · show (aFree A).length + cntD (aBuf A ++ [f]) ≤ 16
    rw [cntD_app]
    have : cntD [f] = if f.1 12 = -1 then 0 else 1 := rfl
    rw [this, ← Nat.add_assoc]
    exact hn
  · obtain ⟨n, a, b, c, d⟩ := w.z
    exact ⟨n, a, b, c, by show (aBuf A ++ [f]).length ≤ n; rw [el]; exact hz n c b d⟩
  · obtain ⟨n, a, b, c, d⟩ := w.q
    refine ⟨n, a, b, c, ?_⟩
    rw [eq]
    split
    · rename_i h; exact hq h n c b d
    · exact d
theorem nI_nm1 {n : Nat} (h : n < 24) : nI n ≠ -1 := fun z => by
  have : ¬ nI n < 0 := nI_pos (by omega)
  rw [z] at this
  exact this (by decide)
theorem rg_nm1 {v : Int32} (h : rg v) : v ≠ -1 := by
  obtain ⟨n, n1, n2⟩ := h
  rw [n2]; exact nI_nm1 n1
theorem cSto_que {c : Int32} (h : cSto c) : cQue c := by
  rcases h with h | h <;> (rw [h]; exact Or.inl (by decide))
theorem ki_rename {A : AS} (k : KI N A) {f : FL} (hl : lnOk f) (hp : f.1 1 = nI (ix (f.1 1)) ∧ ix (f.1 1) < ix (aS A 0)) (hc : aCanRen A f) (hD : cRes (cd A f) → rg ((aFree A).headD 0)) : KI N (aRename f A) := by
  obtain ⟨d1, hd1, ed1⟩ := ki_iK k hp 1 (by decide) (by decide)
  obtain ⟨d2, hd2, ed2⟩ := ki_iK k hp 2 (by decide) (by decide)
  obtain ⟨d3, hd3, ed3⟩ := ki_iK k hp 3 (by decide) (by decide)
  obtain ⟨o1, o2, o3, o4, o5⟩ := fRn_o (f := f) (A := A)
  obtain ⟨p1, p2, p3, p4, p5⟩ := hl
  have r1 := o1 3 (by decide) (by decide) (by decide) (by decide) (by decide)
  have r2 := o1 21 (by decide) (by decide) (by decide) (by decide) (by decide)
  have r4 := o1 16 (by decide) (by decide) (by decide) (by decide) (by decide)
  have r5 := o1 14 (by decide) (by decide) (by decide) (by decide) (by decide)
  rw [ed2, ix_nI (by omega)] at o4
  rw [ed3, ix_nI (by omega)] at o5
  -- the numbers
  have h12 : (cRes (cd A f) ∧ (fRn f A).1 12 = (aFree A).headD 0 ∧ rg ((aFree A).headD 0) ∧ rg ((fRn f A).1 13)) ∨ (¬ cRes (cd A f) ∧ (fRn f A).1 12 = -1) := by
    by_cases c : cRes (cd A f)
    · refine Or.inl ⟨c, (o3 c).1, hD c, ?_⟩
      rw [(o3 c).2, ed1, ix_nI (by omega)]
      exact (k.m d1 hd1).1
    · exact Or.inr ⟨c, (o2 c).1.trans p3⟩
  have kA : KI N (aRn1 f A) ∧ (aFree (aRn1 f A)).length + cntD (aBuf A) + (if (fRn f A).1 12 = -1 then 0 else 1) ≤ 16 := by
    rcases h12 with ⟨c, e1, e2, e3⟩ | ⟨c, e1⟩
    · have fe : aFree A ≠ [] := fun z => hc.2.1 ⟨c, z⟩
      have fl : (aFree A).tail.length + 1 = (aFree A).length := by
        have : 0 < (aFree A).length := List.length_pos_iff.mpr fe
        rw [List.length_tail]; omega
      have hn := k.n
      unfold aRn1
      rw [if_pos c, if_neg (by rw [e1]; exact rg_nm1 e2)]
      refine ⟨?_, by show (aFree A).tail.length + cntD (aBuf A) + 1 ≤ 16; omega⟩
      have w1 := k.lt (t := aBuf A) (l := (aFree A).tail) (fun f hf => hf) (Nat.le_refl _) (Nat.le_refl _) (by omega)
      have w2 : KI N (wFree A (aFree A).tail) := w1
      exact (w2.ar0 (k := 10) (by decide)).ar (k := 11) (by decide) (fun _ => e2)
    · unfold aRn1
      rw [if_neg c, if_pos e1]
      exact ⟨k, by have := k.n; omega⟩
  obtain ⟨kA, hn⟩ := kA
  obtain ⟨q1, q2, q3, q4⟩ := aRn1_o (f := f) (A := A)
  have qd : ∀ g, g.1 1 = f.1 1 → cd (aRn1 f A) g = cd A f := fun g hg => by
    show aA (aRn1 f A) (50 + 0) (ix (g.1 1)) = aA A (50 + 0) (ix (f.1 1))
    rw [q3, hg]
  have qq : aQueued (aRn1 f A) = aQueued A := by unfold aQueued; rw [q1]
  -- a flight like it, with a stage
  have fb : ∀ g, (∀ j, j ≠ 14 → j ≠ 9 → j ≠ 19 → g.1 j = (fRn f A).1 j) → (g.1 14 = 113 ∨ (g.1 14 = 101 ∧ ¬ cQue (cd A f))) → bfOk (aRn1 f A) g := fun g hg hs => by
    have g1 : g.1 1 = f.1 1 := (hg 1 (by decide) (by decide) (by decide)).trans (o1 1 (by decide) (by decide) (by decide) (by decide) (by decide))
    have cg := qd g g1
    have g12 := hg 12 (by decide) (by decide) (by decide)
    have g13 := hg 13 (by decide) (by decide) (by decide)
    refine ⟨⟨?_, ?_, ?_, ?_, ?_, ?_, ?_⟩, ?_, ?_, ?_⟩
    · unfold dOk
      rw [g12]
      rcases h12 with ⟨c, e1, e2, e3⟩ | ⟨c, e1⟩
      · rw [e1]; exact Or.inr e2
      · exact Or.inl e1
    · rw [hg 10 (by decide) (by decide) (by decide), o4]; exact (k.m d2 hd2).1
    · rw [hg 11 (by decide) (by decide) (by decide), o5]; exact (k.m d3 hd3).1
    · rw [hg 3 (by decide) (by decide) (by decide), r1]; exact p1
    · rw [hg 21 (by decide) (by decide) (by decide), r2]; exact Or.inl p2
    · rw [cg, g12]
      intro c
      rcases h12 with ⟨-, e1, e2, e3⟩ | ⟨c', e1⟩
      · rw [e1]; exact rg_nm1 e2
      · exact absurd c c'
    · intro z
      rcases hs with s | s
      · rw [s] at z; exact absurd z (by decide)
      · rw [s.1] at z; exact absurd z (by decide)
    · rcases hs with s | s
      · exact Or.inr (Or.inl s)
      · exact Or.inl s.1
    · rw [g12, g13]
      rcases h12 with ⟨-, e1, e2, e3⟩ | ⟨c', e1⟩
      · exact fun _ => e3
      · exact fun z => absurd e1 z
    · unfold stT
      rw [cg]
      intro s1 s2
      rcases hs with s | s
      · rw [s] at s2; exact absurd s2 (by decide)
      · exact absurd (cSto_que s1) s.2
  have zz : ∀ n, aS (aRn1 f A) 6 = nI n → n ≤ 16 → (aBuf (aRn1 f A)).length ≤ n → (aBuf (aRn1 f A)).length + 1 ≤ n := fun n h1 h2 h3 => by
    have := hc.1
    rw [q2] at h1
    rw [q1] at h3 ⊢
    rw [h1, ix_nI (by omega)] at this
    omega
  have nn : ∀ g : FL, g.1 12 = (fRn f A).1 12 → (aFree (aRn1 f A)).length + cntD (aBuf (aRn1 f A)) + (if g.1 12 = -1 then 0 else 1) ≤ 16 := fun g hg => by rw [q1, hg]; exact hn
  rw [aRename_eq]
  unfold aTail
  rw [cd_rn]
  by_cases cq : cQue (cd A f)
  · rw [if_pos cq]
    refine kA.app (fb _ (fun j h1 h2 h3 => uF_ne h1) (Or.inl uF_at)) (nn _ (uF_ne (by decide))) zz (fun _ n h1 h2 h3 => ?_)
    rw [q2] at h1
    rw [qq] at h3 ⊢
    have : aQueued A ≠ n := fun z => hc.2.2.1 ⟨cq, by rw [h1, ix_nI (by omega)]; exact z⟩
    omega
  · rw [if_neg cq]
    have w1 : KI N (wBuf (aRn1 f A) (aBuf (aRn1 f A) ++ [uF (uF (uF (fRn f A) 14 101) 9 (aS (aRn1 f A) 26)) 19 ((fRn f A).1 6)])) := by
      refine kA.app (fb _ (fun j h1 h2 h3 => by rw [uF_ne h3, uF_ne h2, uF_ne h1]) (Or.inr ⟨by rw [uF_ne (by decide), uF_ne (by decide), uF_at], cq⟩)) (nn _ (by rw [uF_ne (by decide), uF_ne (by decide), uF_ne (by decide)])) zz (fun z => ?_)
      rw [uF_ne (by decide), uF_ne (by decide), uF_at] at z
      exact absurd z (by decide)
    split
    · exact (w1.ar0 (by decide)).ar0 (by decide)
    · exact w1
end KREN3

/-! BEGINNINGS: a load, one -/
set_option maxRecDepth 100000
/-- a store that a load may take from -/
def mSt (A : AS) (l : FL) (j : Nat) : Prop := cSto (cd A (gB A j)) ∧ (gB A j).1 3 < l.1 3 ∧ (gB A j).1 14 = 101 ∧ (gB A j).1 16 = 0 ∧ (gB A j).1 17 = l.1 17
def mSu (A : AS) (l : FL) (i : Nat) : Prop := ∀ j, j < i → cSto (cd A (gB A j)) → (gB A j).1 3 < l.1 3 → (gB A j).1 14 = 101
def mSr (A : AS) (l : FL) (bq : List Nat) (i x : Nat) : Prop := (x = 0 ∧ ∀ j, j < i → ¬ mSt A l j) ∨ (∃ j, j < i ∧ x = bq.getD j 0 ∧ mSt A l j ∧ ∀ k, j < k → k < i → ¬ mSt A l k)
theorem mem_gB {A : AS} {f : FL} (h : f ∈ aBuf A) : ∃ j, j < (aBuf A).length ∧ gB A j = f := by
  obtain ⟨i, hi, e⟩ := List.mem_iff_getElem.mp h
  exact ⟨i, hi, by unfold gB; rw [getD_lt hi]; exact e⟩
theorem mSu_all {A : AS} {l : FL} : mSu A l (aBuf A).length ↔ aSure A l := by
  constructor
  · intro h f hf
    obtain ⟨h1, h2⟩ := List.mem_filter.mp hf
    obtain ⟨j, hj, e⟩ := mem_gB h1
    have h2 := of_decide_eq_true h2
    rw [← e] at h2 ⊢
    exact h j hj h2.1 h2.2
  · intro h j hj h1 h2
    exact h _ (List.mem_filter.mpr ⟨gB_mem hj, decide_eq_true ⟨h1, h2⟩⟩)
theorem fil2 {A : AS} {l : FL} : (aOld A l).filter (fun f => decide (f.1 14 = 101 ∧ f.1 16 = 0 ∧ f.1 17 = l.1 17)) = (aBuf A).filter fun f => decide (cSto (cd A f) ∧ f.1 3 < l.1 3 ∧ f.1 14 = 101 ∧ f.1 16 = 0 ∧ f.1 17 = l.1 17) := by
  unfold aOld
  rw [List.filter_filter]
  congr 1
  funext f
  rw [← Bool.decide_and]
  exact decide_eq_decide.mpr ⟨fun z => ⟨z.2.1, z.2.2, z.1⟩, fun z => ⟨z.2.2, z.1, z.2.1⟩⟩
theorem src_none {A : AS} {l : FL} (h : ∀ j, j < (aBuf A).length → ¬ mSt A l j) : aSrc A l = none := by
  unfold aSrc
  rw [fil2]
  have : (aBuf A).filter (fun f => decide (cSto (cd A f) ∧ f.1 3 < l.1 3 ∧ f.1 14 = 101 ∧ f.1 16 = 0 ∧ f.1 17 = l.1 17)) = [] := by
    rw [List.filter_eq_nil_iff]
    intro f hf z
    obtain ⟨j, hj, e⟩ := mem_gB hf
    have z := of_decide_eq_true z
    rw [← e] at z
    exact h j hj z
  rw [this]
  rfl
theorem src_some {A : AS} {l : FL} {j : Nat} (hj : j < (aBuf A).length) (h : mSt A l j) (h2 : ∀ k, j < k → k < (aBuf A).length → ¬ mSt A l k) : aSrc A l = some (gB A j) := by
  unfold aSrc
  rw [fil2]
  have e : aBuf A = (aBuf A).take j ++ gB A j :: (aBuf A).drop (j + 1) := by
    have e1 := (List.take_append_drop j (aBuf A)).symm
    have e2 : (aBuf A).drop j = gB A j :: (aBuf A).drop (j + 1) := by unfold gB; rw [getD_lt hj]; exact List.drop_eq_getElem_cons hj
    rw [e2] at e1
    exact e1
  generalize hP : (fun f : FL => decide (cSto (cd A f) ∧ f.1 3 < l.1 3 ∧ f.1 14 = 101 ∧ f.1 16 = 0 ∧ f.1 17 = l.1 17)) = P
  have p1 : P (gB A j) = true := by rw [← hP]; exact decide_eq_true h
  have p2 : ((aBuf A).drop (j + 1)).filter P = [] := by
    rw [List.filter_eq_nil_iff]
    intro f hf z
    rw [← hP] at z
    have z := of_decide_eq_true z
    obtain ⟨i, hi, ei⟩ := List.mem_iff_getElem.mp hf
    rw [List.getElem_drop] at ei
    have hi' : j + 1 + i < (aBuf A).length := by rw [List.length_drop] at hi; omega
    have e3 : gB A (j + 1 + i) = f := by unfold gB; rw [getD_lt hi']; exact ei
    rw [← e3] at z
    exact h2 _ (by omega) hi' z
  rw [e, List.filter_append, List.filter_cons, if_pos p1, p2]
  simp
section KBEG3
variable {ic e0 sp p : Nat} {A : AS} {bq lq pl el : List Nat}
theorem aBL_eq {i : Nat} : aBeginLoad i A = if ¬ aSure A (gB A i) ∧ aA A 22 (ix (irm ((gB A i).1 1) 16)) = 1 then (A, false) else
    match aSrc A (gB A i) with
    | some s => if cd A s = 11 ∨ ¬ rdy A (s.1 11) then (A, false) else (upB (wS A 35 (aS A 35 + 1)) i (fBeg (uF (uF (gB A i) 21 (s.1 3)) 18 (val A (s.1 11))) (aS A 26) 1), true)
    | none => aRead i A := rfl
theorem bl_126 {h : zH} (w : RK h p ic e0 sp A bq lq pl el) (b : bOk A) {i x : Nat} (hi : i < bq.length) (h17 : isAd ((gB A i).1 17)) (hk : (aAsk A).length ≤ 2) (hc : ∃ b c, aS A 36 = nI b ∧ aS A 37 = nI c ∧ b < 1000000 ∧ c < 1000000) (hx : mSr A (gB A i) bq bq.length x) (hn : ¬ (¬ aSure A (gB A i) ∧ aA A 22 (ix (irm ((gB A i).1 1) 16)) = 1)) :
    ∃ h', j_X1_beginLoad_j126 h p (bq.getD i 0) x = some (h', if (aBeginLoad i A).2 then 1 else 0) ∧ RK h' p ic e0 sp (aBeginLoad i A).1 bq lq pl el ∧ ChB h h' := by
  have hl := rk_len w
  have ev := (aBL_eq (A := A) (i := i)).trans (if_neg hn)
  rcases hx with ⟨h0, hno⟩ | ⟨j, hj, ej, mj, hno⟩
  · rw [src_none (fun j hj => hno j (by omega))] at ev
    have ev : aBeginLoad i A = aRead i A := ev
    rw [ev]
    obtain ⟨h', f1, f2, f3⟩ := k_read w hi h17 hk hc
    refine ⟨h', ?_, f2, f3⟩
    have hb : b01 (if (aRead i A).2 then 1 else 0) = true := b01_if
    show _ = some (h', if (aRead i A).2 then 1 else 0)
    simp only [j_X1_beginLoad_j126, j_X1_beginLoad_j144, if_pos h0, ukd, ubd, rk_wk w, decide_true, gd_true, f1, hb]
  · rw [src_some (by omega) mj (fun k h1 h2 => hno k h1 (by omega))] at ev
    have ev : aBeginLoad i A = if cd A (gB A j) = 11 ∨ ¬ rdy A ((gB A j).1 11) then (A, false) else (upB (wS A 35 (aS A 35 + 1)) i (fBeg (uF (uF (gB A i) 21 ((gB A j).1 3)) 18 (val A ((gB A j).1 11))) (aS A 26) 1), true) := ev
    have bf := b.2.1 _ (gB_mem (A := A) (i := j) (by omega))
    obtain ⟨h', f1, f2, f3⟩ := k_takeFrom (j := j) w hi hj bf.2.2.1 bf.2.2.2.1
    have xn : ¬ x = 0 := by rw [ej]; exact wf_n0 (rk_w0 w) (rk_fr w hj).1 (by decide)
    rw [← ej] at f1
    by_cases d : cd A (gB A j) = 11 ∨ ¬ rdy A ((gB A j).1 11)
    · rw [if_pos d] at f1 f2 ev
      rw [ev]
      have hb : b01 0 = true := by decide
      refine ⟨h', ?_, f2, f3⟩
      show _ = some (h', 0)
      simp only [j_X1_beginLoad_j126, j_X1_beginLoad_j144, if_neg xn, ukd, ubd, rk_wk w, decide_true, gd_true, f1, hb]
    · rw [if_neg d] at f1 f2 ev
      rw [ev]
      have hb : b01 1 = true := by decide
      refine ⟨h', ?_, f2, f3⟩
      show _ = some (h', 1)
      simp only [j_X1_beginLoad_j126, j_X1_beginLoad_j144, if_neg xn, ukd, ubd, rk_wk w, decide_true, gd_true, f1, hb]
theorem bl_l {i0 it bl : Nat} {ns : List Nat} (b : bOk A) (hi0 : i0 < bq.length) (h17 : isAd ((gB A i0).1 17)) (hk : (aAsk A).length ≤ 2) (hc : ∃ b c, aS A 36 = nI b ∧ aS A 37 = nI c ∧ b < 1000000 ∧ c < 1000000) : ∀ (n i : Nat) (h : zH) (x : Nat) (y : Int32) (lr : Nat), RK h p ic e0 sp A bq lq pl el → LL h 54 bl bq ns → IT h 54 it bl ns i lr → i ≤ bq.length → bq.length < n + i → mSr A (gB A i0) bq i x → fl01 (mSu A (gB A i0) i) y →
    ∃ h', j_X1_beginLoad_l13 n h p (bq.getD i0 0) x y it = some (h', if (aBeginLoad i0 A).2 then 1 else 0) ∧ RK h' p ic e0 sp (aBeginLoad i0 A).1 bq lq pl el ∧ ChB h h'
  | 0, i, h, x, y, lr, w, wl, v, h1, h2, hx, hy => by omega
  | n + 1, i, h, x, y, lr, w, wl, v, h1, h2, hx, hy => by
    have hn := it_hasNext wl v h1
    have hl := rk_len w
    have z10 : ¬ (1 : Int32) = 0 := by decide
    show ∃ h', j_X1_beginLoad_b13 (j_X1_beginLoad_l13 n) h p (bq.getD i0 0) x y it = some (h', _) ∧ _
    by_cases c : i < bq.length
    · rw [if_pos c] at hn
      obtain ⟨h', e1, wl1, v1, c1⟩ := it_next wl v (by decide) c
      have w1 : RK h' p ic e0 sp A bq lq pl el := rk_its w (c1.sub (by simp))
      have fr := rk_fr w1 c
      have fl := rk_fr w1 hi0
      obtain ⟨ki, kv, -⟩ := fr_ins fr (rk_g10 w1)
      have hcd : zI h' 4 1 0 (zR h' 8 1 0 (bq.getD i 0)) = cd A (gB A i) := kv 0 (by decide)
      have bi := b.2.1 _ (gB_mem (A := A) (i := i) (by omega))
      have b0 := b.2.1 _ (gB_mem (A := A) (i := i0) (by omega))
      have e16 := fr_i fr (k := 16) (by decide)
      have e17 := fr_i fr (k := 17) (by decide)
      have e17l := fr_i fl (k := 17) (by decide)
      have y1 : b01 1 = true := by decide
      have y0 : b01 0 = true := by decide
      have go : ∀ x' y', mSr A (gB A i0) bq (i + 1) x' → fl01 (mSu A (gB A i0) (i + 1)) y' → ∃ h2, j_X1_beginLoad_l13 n h' p (bq.getD i0 0) x' y' it = some (h2, if (aBeginLoad i0 A).2 then 1 else 0) ∧ RK h2 p ic e0 sp (aBeginLoad i0 A).1 bq lq pl el ∧ ChB h h2 := fun x' y' hx' hy' => by
        obtain ⟨h2, f1, f2, f3⟩ := bl_l b hi0 h17 hk hc n (i + 1) h' x' y' _ w1 wl1 v1 (by omega) (by omega) hx' hy'
        exact ⟨h2, f1, f2, (ChB.of c1 (by simp) (by decide)).tr f3⟩
      have sr0 : ¬ mSt A (gB A i0) i → mSr A (gB A i0) bq (i + 1) x := fun hm => by
        rcases hx with ⟨a, a2⟩ | ⟨j, a1, a2, a3, a4⟩
        · refine Or.inl ⟨a, fun j hj => ?_⟩
          by_cases e : j = i
          · subst e; exact hm
          · exact a2 j (by omega)
        · refine Or.inr ⟨j, by omega, a2, a3, fun k k1 k2 => ?_⟩
          by_cases e : k = i
          · subst e; exact hm
          · exact a4 k k1 (by omega)
      have su0 : (cSto (cd A (gB A i)) → (gB A i).1 3 < (gB A i0).1 3 → (gB A i).1 14 = 101) → fl01 (mSu A (gB A i0) (i + 1)) y := fun hm => by
        have : mSu A (gB A i0) (i + 1) ↔ mSu A (gB A i0) i := ⟨fun z j hj => z j (by omega), fun z j hj => by
          by_cases e : j = i
          · subst e; exact hm
          · exact z j (by omega)⟩
        exact ⟨fun z => hy.1 (this.mp z), fun z => hy.2 (fun q => z (this.mpr q))⟩
      by_cases d1 : cSto (cd A (gB A i))
      · have old := x10_older fr.1 fl.1 fr.2.2.2.1 fl.2.2.2.1 bi.2.2.2.1 b0.2.2.2.1
        by_cases d2 : (gB A i).1 3 < (gB A i0).1 3
        · have over := x8_over fr
          by_cases d3 : (gB A i).1 14 = 101
          · -- an ended store
            have fy : fl01 (mSu A (gB A i0) (i + 1)) y := su0 (fun _ _ => d3)
            have y01 : y = 0 ∨ y = 1 := by
              by_cases q : mSu A (gB A i0) i
              · exact Or.inr (hy.1 q)
              · exact Or.inl (hy.2 q)
            have step : ∀ x', mSr A (gB A i0) bq (i + 1) x' → j_X1_beginLoad_j72 (j_X1_beginLoad_l13 n) h' p (bq.getD i0 0) x it (bq.getD i 0) y = j_X1_beginLoad_l13 n h' p (bq.getD i0 0) x' y it → ∃ h2, j_X1_beginLoad_b13 (j_X1_beginLoad_l13 n) h p (bq.getD i0 0) x y it = some (h2, if (aBeginLoad i0 A).2 then 1 else 0) ∧ RK h2 p ic e0 sp (aBeginLoad i0 A).1 bq lq pl el ∧ ChB h h2 := fun x' hx' he => by
              obtain ⟨h2, f1, f2, f3⟩ := go x' y hx' fy
              refine ⟨h2, ?_, f2, f3⟩
              rw [← he] at f1
              rcases y01 with q | q
              · rw [q] at f1
                simp only [j_X1_beginLoad_b13, j_X1_beginLoad_j71, hn, e1, gd_true, ult, ubd, ukd, uwr, url, unz, uhI, uhR, uhL, upI, upR, upL, eKI, eKR, eKL, eNI, eNR, eNL, eTI, eTR, eTL, eIR, eIL, eRI, eRL, eLI, eLR, rIw, rRw, rLw, decide_true, decide_false, ne_eq, not_false_eq_true, not_true_eq_false, true_and, and_true, and_false, false_and, and_self, if_true, if_false, reduceIte, Nat.reduceEqDiff, decide_not, Bool.not_true, Bool.not_false, v.1, fr.1, ki, x4_sto ki hcd, if01, if_neg (fun z => z d1 : ¬ ¬ cSto (cd A (gB A i))), old, if_neg (fun z => z d2 : ¬ ¬ (gB A i).1 3 < (gB A i0).1 3), if_neg z10, q]
                exact f1
              · rw [q] at f1
                simp only [j_X1_beginLoad_b13, j_X1_beginLoad_j71, hn, e1, gd_true, ult, ubd, ukd, uwr, url, unz, uhI, uhR, uhL, upI, upR, upL, eKI, eKR, eKL, eNI, eNR, eNL, eTI, eTR, eTL, eIR, eIL, eRI, eRL, eLI, eLR, rIw, rRw, rLw, decide_true, decide_false, ne_eq, not_false_eq_true, not_true_eq_false, true_and, and_true, and_false, false_and, and_self, if_true, if_false, reduceIte, Nat.reduceEqDiff, decide_not, Bool.not_true, Bool.not_false, v.1, fr.1, ki, x4_sto ki hcd, if01, if_neg (fun z => z d1 : ¬ ¬ cSto (cd A (gB A i))), old, if_neg (fun z => z d2 : ¬ ¬ (gB A i).1 3 < (gB A i0).1 3), if_neg z10, q, over, if_neg (fun z => z d3 : ¬ ¬ (gB A i).1 14 = 101)]
                exact f1
            by_cases d4 : (gB A i).1 16 = 0
            · by_cases d5 : (gB A i).1 17 = (gB A i0).1 17
              · refine step (bq.getD i 0) (Or.inr ⟨i, by omega, rfl, ⟨d1, d2, d3, d4, d5⟩, fun k k1 k2 => by omega⟩) ?_
                simp only [j_X1_beginLoad_j72, j_X1_beginLoad_j99, j_X1_beginLoad_j98, j_X1_beginLoad_j100, j_X8_isEndedStore, j_X8_isEndedStore_j28, j_X8_isEndedStore_j29, gd_true, ult, ubd, ukd, uwr, url, unz, uhI, uhR, uhL, upI, upR, upL, eKI, eKR, eKL, eNI, eNR, eNL, eTI, eTR, eTL, eIR, eIL, eRI, eRL, eLI, eLR, rIw, rRw, rLw, decide_true, decide_false, ne_eq, not_false_eq_true, not_true_eq_false, true_and, and_true, and_false, false_and, and_self, if_true, if_false, reduceIte, Nat.reduceEqDiff, decide_not, Bool.not_true, Bool.not_false, fr.1, fl.1, ki, x4_sto ki hcd, if01, if_neg (fun z => z d1 : ¬ ¬ cSto (cd A (gB A i))), over, if_neg (fun z => z d3 : ¬ ¬ (gB A i).1 14 = 101), e16, if_pos d4, y1, if_neg z10, e17, e17l, if_pos d5]
              · refine step x (sr0 (fun z => d5 z.2.2.2.2)) ?_
                simp only [j_X1_beginLoad_j72, j_X1_beginLoad_j99, j_X1_beginLoad_j98, j_X1_beginLoad_j100, j_X8_isEndedStore, j_X8_isEndedStore_j28, j_X8_isEndedStore_j29, gd_true, ult, ubd, ukd, uwr, url, unz, uhI, uhR, uhL, upI, upR, upL, eKI, eKR, eKL, eNI, eNR, eNL, eTI, eTR, eTL, eIR, eIL, eRI, eRL, eLI, eLR, rIw, rRw, rLw, decide_true, decide_false, ne_eq, not_false_eq_true, not_true_eq_false, true_and, and_true, and_false, false_and, and_self, if_true, if_false, reduceIte, Nat.reduceEqDiff, decide_not, Bool.not_true, Bool.not_false, fr.1, fl.1, ki, x4_sto ki hcd, if01, if_neg (fun z => z d1 : ¬ ¬ cSto (cd A (gB A i))), over, if_neg (fun z => z d3 : ¬ ¬ (gB A i).1 14 = 101), e16, if_pos d4, y1, if_neg z10, e17, e17l, if_neg d5]
            · refine step x (sr0 (fun z => d4 z.2.2.2.1)) ?_
              simp only [j_X1_beginLoad_j72, j_X1_beginLoad_j99, j_X1_beginLoad_j98, j_X1_beginLoad_j100, j_X8_isEndedStore, j_X8_isEndedStore_j28, j_X8_isEndedStore_j29, gd_true, ult, ubd, ukd, uwr, url, unz, uhI, uhR, uhL, upI, upR, upL, eKI, eKR, eKL, eNI, eNR, eNL, eTI, eTR, eTL, eIR, eIL, eRI, eRL, eLI, eLR, rIw, rRw, rLw, decide_true, decide_false, ne_eq, not_false_eq_true, not_true_eq_false, true_and, and_true, and_false, false_and, and_self, if_true, if_false, reduceIte, Nat.reduceEqDiff, decide_not, Bool.not_true, Bool.not_false, fr.1, fl.1, ki, x4_sto ki hcd, if01, if_neg (fun z => z d1 : ¬ ¬ cSto (cd A (gB A i))), over, if_neg (fun z => z d3 : ¬ ¬ (gB A i).1 14 = 101), e16, if_neg d4, y0]
          · obtain ⟨h2, f1, f2, f3⟩ := go x 0 (sr0 (fun z => d3 z.2.2.1)) (fl0 (fun z => d3 (z i (by omega) d1 d2)))
            refine ⟨h2, ?_, f2, f3⟩
            have e72 : j_X1_beginLoad_j72 (j_X1_beginLoad_l13 n) h' p (bq.getD i0 0) x it (bq.getD i 0) 0 = j_X1_beginLoad_l13 n h' p (bq.getD i0 0) x 0 it := by
              simp only [j_X1_beginLoad_j72, j_X1_beginLoad_j99, j_X1_beginLoad_j98, j_X1_beginLoad_j100, j_X8_isEndedStore, j_X8_isEndedStore_j28, j_X8_isEndedStore_j29, gd_true, ult, ubd, ukd, uwr, url, unz, uhI, uhR, uhL, upI, upR, upL, eKI, eKR, eKL, eNI, eNR, eNL, eTI, eTR, eTL, eIR, eIL, eRI, eRL, eLI, eLR, rIw, rRw, rLw, decide_true, decide_false, ne_eq, not_false_eq_true, not_true_eq_false, true_and, and_true, and_false, false_and, and_self, if_true, if_false, reduceIte, Nat.reduceEqDiff, decide_not, Bool.not_true, Bool.not_false, fr.1, fl.1, ki, x4_sto ki hcd, if01, if_neg (fun z => z d1 : ¬ ¬ cSto (cd A (gB A i))), over, if_pos d3, y0]
            rw [← e72] at f1
            by_cases q : y = 0
            · simp only [j_X1_beginLoad_b13, j_X1_beginLoad_j71, hn, e1, gd_true, ult, ubd, ukd, uwr, url, unz, uhI, uhR, uhL, upI, upR, upL, eKI, eKR, eKL, eNI, eNR, eNL, eTI, eTR, eTL, eIR, eIL, eRI, eRL, eLI, eLR, rIw, rRw, rLw, decide_true, decide_false, ne_eq, not_false_eq_true, not_true_eq_false, true_and, and_true, and_false, false_and, and_self, if_true, if_false, reduceIte, Nat.reduceEqDiff, decide_not, Bool.not_true, Bool.not_false, v.1, fr.1, ki, x4_sto ki hcd, if01, if_neg (fun z => z d1 : ¬ ¬ cSto (cd A (gB A i))), old, if_neg (fun z => z d2 : ¬ ¬ (gB A i).1 3 < (gB A i0).1 3), if_neg z10, if_pos q]
              exact f1
            · simp only [j_X1_beginLoad_b13, j_X1_beginLoad_j71, hn, e1, gd_true, ult, ubd, ukd, uwr, url, unz, uhI, uhR, uhL, upI, upR, upL, eKI, eKR, eKL, eNI, eNR, eNL, eTI, eTR, eTL, eIR, eIL, eRI, eRL, eLI, eLR, rIw, rRw, rLw, decide_true, decide_false, ne_eq, not_false_eq_true, not_true_eq_false, true_and, and_true, and_false, false_and, and_self, if_true, if_false, reduceIte, Nat.reduceEqDiff, decide_not, Bool.not_true, Bool.not_false, v.1, fr.1, ki, x4_sto ki hcd, if01, if_neg (fun z => z d1 : ¬ ¬ cSto (cd A (gB A i))), old, if_neg (fun z => z d2 : ¬ ¬ (gB A i).1 3 < (gB A i0).1 3), if_neg z10, if_neg q, over, if_pos d3]
              exact f1
        · obtain ⟨h2, f1, f2, f3⟩ := go x y (sr0 (fun z => d2 z.2.1)) (su0 (fun _ z => absurd z d2))
          refine ⟨h2, ?_, f2, f3⟩
          simp only [j_X1_beginLoad_b13, j_X1_beginLoad_j100, hn, e1, gd_true, ult, ubd, ukd, uwr, url, unz, uhI, uhR, uhL, upI, upR, upL, eKI, eKR, eKL, eNI, eNR, eNL, eTI, eTR, eTL, eIR, eIL, eRI, eRL, eLI, eLR, rIw, rRw, rLw, decide_true, decide_false, ne_eq, not_false_eq_true, not_true_eq_false, true_and, and_true, and_false, false_and, and_self, if_true, if_false, reduceIte, Nat.reduceEqDiff, decide_not, Bool.not_true, Bool.not_false, v.1, fr.1, ki, x4_sto ki hcd, if01, if_neg (fun z => z d1 : ¬ ¬ cSto (cd A (gB A i))), old, if_pos d2, if_neg z10]
          exact f1
      · obtain ⟨h2, f1, f2, f3⟩ := go x y (sr0 (fun z => d1 z.1)) (su0 (fun z => absurd z d1))
        refine ⟨h2, ?_, f2, f3⟩
        simp only [j_X1_beginLoad_b13, j_X1_beginLoad_j100, hn, e1, gd_true, ult, ubd, ukd, uwr, url, unz, uhI, uhR, uhL, upI, upR, upL, eKI, eKR, eKL, eNI, eNR, eNL, eTI, eTR, eTL, eIR, eIL, eRI, eRL, eLI, eLR, rIw, rRw, rLw, decide_true, decide_false, ne_eq, not_false_eq_true, not_true_eq_false, true_and, and_true, and_false, false_and, and_self, if_true, if_false, reduceIte, Nat.reduceEqDiff, decide_not, Bool.not_true, Bool.not_false, v.1, fr.1, ki, x4_sto ki hcd, if01, if_pos d1, if_neg z10]
        exact f1
    · rw [if_neg c] at hn
      have hi : i = bq.length := by omega
      rw [hi] at hx hy
      rw [hl] at hy
      have fl := rk_fr w hi0
      obtain ⟨-, -, pl1, pl2⟩ := fr_ins fl (rk_g10 w)
      have pl64 := (rk_g10 w).2.1
      have e1l := fr_i fl (k := 1) (by decide)
      generalize hm : ix ((gB A i0).1 1) = m at pl1 pl2
      have i16 : irm ((gB A i0).1 1) 16 = nI (m % 16) := by rw [pl2]; exact irm_nI (k := 16) (by omega) (by decide) (by decide)
      obtain ⟨r, hr, er⟩ : ∃ r, r < 24 ∧ irm ((gB A i0).1 1) 16 = nI r := ⟨m % 16, by omega, i16⟩
      have bg := bs_get (rk_g4 w).2 hr
      have k22 : zK h (zR h 1 1 22 p) = (11, 56) := (rk_g4 w).2.1
      have xr : ix (nI r) = r := ix_nI (by omega)
      by_cases su : aSure A (gB A i0)
      · have hy1 : y = 1 := hy.1 (mSu_all.mpr su)
        obtain ⟨h', f1, f2, f3⟩ := bl_126 w b hi0 h17 hk hc hx (fun z => z.1 su)
        refine ⟨h', ?_, f2, f3⟩
        simp only [j_X1_beginLoad_b13, hn, gd_true, ult, ubd, ukd, uwr, url, unz, uhI, uhR, uhL, upI, upR, upL, eKI, eKR, eKL, eNI, eNR, eNL, eTI, eTR, eTL, eIR, eIL, eRI, eRL, eLI, eLR, rIw, rRw, rLw, decide_true, decide_false, ne_eq, not_false_eq_true, not_true_eq_false, true_and, and_true, and_false, false_and, and_self, if_true, if_false, reduceIte, Nat.reduceEqDiff, decide_not, Bool.not_true, Bool.not_false, v.1, hy1, if_neg z10]
        exact f1
      · have hy0 : y = 0 := hy.2 (fun z => su (mSu_all.mp z))
        by_cases mk : aA A 22 r = 1
        · have ev : aBeginLoad i0 A = (A, false) := (aBL_eq (A := A) (i := i0)).trans (if_pos ⟨su, by rw [er, xr]; exact mk⟩)
          rw [ev]
          refine ⟨h, ?_, w, ChB.rf⟩
          have bg1 : j_J3_get h (zR h 1 1 22 p) (nI r) = some (h, 1) := by rw [bg, if_pos (decide_eq_true mk)]
          show _ = some (h, 0)
          simp only [j_X1_beginLoad_b13, hn, gd_true, ult, ubd, ukd, uwr, url, unz, uhI, uhR, uhL, upI, upR, upL, eKI, eKR, eKL, eNI, eNR, eNL, eTI, eTR, eTL, eIR, eIL, eRI, eRL, eLI, eLR, rIw, rRw, rLw, decide_true, decide_false, ne_eq, not_false_eq_true, not_true_eq_false, true_and, and_true, and_false, false_and, and_self, if_true, if_false, reduceIte, Nat.reduceEqDiff, decide_not, Bool.not_true, Bool.not_false, v.1, hy0, rk_wk w, fl.1, k22, e1l, er, bg1, if_neg z10]
        · obtain ⟨h', f1, f2, f3⟩ := bl_126 w b hi0 h17 hk hc hx (fun z => mk (by have := z.2; rw [er, xr] at this; exact this))
          refine ⟨h', ?_, f2, f3⟩
          have bg0 : j_J3_get h (zR h 1 1 22 p) (nI r) = some (h, 0) := by rw [bg, if_neg (fun z => mk (of_decide_eq_true z))]
          simp only [j_X1_beginLoad_b13, hn, gd_true, ult, ubd, ukd, uwr, url, unz, uhI, uhR, uhL, upI, upR, upL, eKI, eKR, eKL, eNI, eNR, eNL, eTI, eTR, eTL, eIR, eIL, eRI, eRL, eLI, eLR, rIw, rRw, rLw, decide_true, decide_false, ne_eq, not_false_eq_true, not_true_eq_false, true_and, and_true, and_false, false_and, and_self, if_true, if_false, reduceIte, Nat.reduceEqDiff, decide_not, Bool.not_true, Bool.not_false, v.1, hy0, rk_wk w, fl.1, k22, e1l, er, bg0]
          exact f1
theorem k_beginLoad {h : zH} (w : RK h p ic e0 sp A bq lq pl el) (b : bOk A) {i : Nat} (hi : i < bq.length) (h17 : isAd ((gB A i).1 17)) (hk : (aAsk A).length ≤ 2) (hc : ∃ b c, aS A 36 = nI b ∧ aS A 37 = nI c ∧ b < 1000000 ∧ c < 1000000) :
    ∃ h', j_X1_beginLoad h p (bq.getD i 0) = some (h', if (aBeginLoad i A).2 then 1 else 0) ∧ RK h' p ic e0 sp (aBeginLoad i A).1 bq lq pl el ∧ ChB h h' := by
  obtain ⟨ns, wl⟩ := rk_g7 w
  have hb := rk_lb w
  obtain ⟨h1, it, e1, wl1, v1, c1⟩ := ll_iterator wl (rk_w0 w) (by decide) (by omega)
  have w1 : RK h1 p ic e0 sp A bq lq pl el := rk_its w (c1.sub (by simp))
  obtain ⟨h', f1, f2, f3⟩ := bl_l (ns := ns) (it := it) b hi h17 hk hc 18 0 h1 0 1 0 w1 wl1 v1 (by omega) (by omega) (Or.inl ⟨rfl, fun j hj => absurd hj (by omega)⟩) (fl1 (fun j hj => absurd hj (by omega)))
  refine ⟨h', ?_, f2, (ChB.of c1 (by simp) (by decide)).tr f3⟩
  simp only [j_X1_beginLoad, gd_true, ult, ubd, ukd, uwr, url, unz, uhI, uhR, uhL, upI, upR, upL, eKI, eKR, eKL, eNI, eNR, eNL, eTI, eTR, eTL, eIR, eIL, eRI, eRL, eLI, eLR, rIw, rRw, rLw, decide_true, decide_false, ne_eq, not_false_eq_true, not_true_eq_false, true_and, and_true, and_false, false_and, and_self, if_true, if_false, reduceIte, Nat.reduceEqDiff, decide_not, Bool.not_true, Bool.not_false, rk_wk w, wl.1, e1, f1]
end KBEG3

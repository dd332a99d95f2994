/-! RETIRING: the loop -/
set_option maxRecDepth 100000
def rFin (q : AS × Nat × Bool) : AS := if q.2.1 = 0 then aLose (if q.2.2 then aWhy q.1 else 1) q.1 else q.1
theorem aLearn_S {f : FL} {X : AS} : aS (aLearn f X) = aS X := by
  unfold aLearn
  dsimp only
  split
  · rfl
  · split
    · rfl
    · rfl
section KRET5
variable {ic e0 sp cm B p N : Nat}
theorem ex136 {h : zH} {A : AS} {bq lq pl el : List Nat} (w : RQ h p ic e0 sp A bq lq pl el) (k : KI N A) {r : Nat} (hr : r ≤ 4) (b : Bool) : ∃ h', j_X1_retireAll_j136 h e0 ic sp cm B p (nI r) (if b then 1 else 0) = some h' ∧ RQ h' p ic e0 sp (rFin (A, r, b)) bq lq pl el := by
  have er : (nI r = 0) = (r = 0) := by rw [← nI_0]; exact propext (nI_eq (by omega) (by omega))
  have z10 : ¬ (1 : Int32) = 0 := by decide
  unfold rFin
  dsimp only
  by_cases c : r = 0
  · rw [if_pos c]
    cases b with
    | true =>
      obtain ⟨j, j1, j2, j3⟩ := k_why w (fun f hf => (k.b f hf).2.1)
      obtain ⟨h', f1, f2⟩ := k_lose w j1
      refine ⟨h', ?_, ?_⟩
      · simp only [j_X1_retireAll_j136, j_X1_retireAll_j154, j_X1_retireAll_j157, ult, ubd, ukd, decide_true, gd_true, er, if_pos c, if_true, if_neg z10, rq_k w, j3, f1]
      · rw [if_pos rfl, ← j2]; exact f2
    | false =>
      obtain ⟨h', f1, f2⟩ := k_lose w (j := 1) (by decide)
      have f1' : j_X1_lose h p 116 sp = some h' := f1
      refine ⟨h', ?_, ?_⟩
      · simp only [j_X1_retireAll_j136, j_X1_retireAll_j154, j_X1_retireAll_j157, ult, ubd, ukd, decide_true, gd_true, er, if_pos c, if_true, rq_k w, f1', Bool.false_eq_true, if_false]
      · rw [if_neg (by decide)]; exact f2
  · rw [if_neg c]
    refine ⟨h, ?_, w⟩
    simp only [j_X1_retireAll_j136, j_X1_retireAll_j157, er, if_neg c]
theorem ra_l {W : Nat} {pl : List Nat} (hW : W ≤ 4) : ∀ (n r m : Nat) (h : zH) (A : AS) (bq lq el : List Nat), n < m → n + r = W → RQ h p ic e0 sp A bq lq pl el → KI N A → aS A 5 = nI W → 0 ∉ el → el.length + n + 1 < 100000 → (el.length + n) + (el.length + n) / 2 + 1 ≤ B → B ≤ 60000000 →
    ∃ h' bq' lq' el', j_X1_retireAll_l43 m h e0 ic sp cm B p (nI r) 1 = some h' ∧ RQ h' p ic e0 sp (rFin (aRetLoop n r A)) bq' lq' pl el' ∧ 0 ∉ el' ∧ el'.length ≤ el.length + n
  | n, r, 0, h, A, bq, lq, el, hm, hr, w, k, s5, h0, hl, hB, hB2 => absurd hm (by omega)
  | 0, r, m + 1, h, A, bq, lq, el, hm, hr, w, k, s5, h0, hl, hB, hB2 => by
    obtain ⟨h', f1, f2⟩ := ex136 (cm := cm) (B := B) w k (r := r) (by omega) true
    refine ⟨h', bq, lq, el, ?_, f2, h0, by omega⟩
    have s5' := rq_s w (k := 5) (by decide)
    have le : nI W ≤ nI r := (nI_leI (by omega) (by omega)).mpr (by omega)
    have z10 : ¬ (1 : Int32) = 0 := by decide
    show j_X1_retireAll_b43 (j_X1_retireAll_l43 m) h e0 ic sp cm B p (nI r) 1 = _
    rw [if_pos rfl] at f1
    simp only [j_X1_retireAll_b43, gd_true, ult, ubd, ukd, uwr, url, unz, uhI, uhR, uhL, upI, upR, upL, eKI, eKR, eKL, eNI, eNR, eNL, eTI, eTR, eTL, eIR, eIL, eRI, eRL, eLI, eLR, rIw, rRw, rLw, decide_true, decide_false, ne_eq, not_false_eq_true, not_true_eq_false, true_and, and_true, and_false, false_and, and_self, if_true, if_false, reduceIte, Nat.reduceEqDiff, decide_not, Bool.not_true, Bool.not_false, rq_k w, s5', s5, if_pos le, if_neg z10, f1]
  | n + 1, r, m + 1, h, A, bq, lq, el, hm, hr, w, k, s5, h0, hl, hB, hB2 => by
    have s5' := rq_s w (k := 5) (by decide)
    have le : ¬ nI W ≤ nI r := fun z => by have := (nI_leI (by omega) (by omega)).mp z; omega
    have z10 : ¬ (1 : Int32) = 0 := by decide
    obtain ⟨ns, wl⟩ := rq_buf w
    have ie := ll_isEmpty wl
    have hlq := rq_len w
    show ∃ h' bq' lq' el', j_X1_retireAll_b43 (j_X1_retireAll_l43 m) h e0 ic sp cm B p (nI r) 1 = some h' ∧ _
    have ue : aRetLoop (n + 1) r A = if aBuf A ≠ [] ∧ (gB A 0).1 14 = 101 ∧ ¬ aLacks A (gB A 0) then (if aTrap A (gB A 0) = 0 then aRetLoop n (r + 1) (aRetire A) else (aTakeTrap (aTrap A (gB A 0)) A, r, false)) else (A, r, true) := rfl
    rw [ue]
    obtain ⟨hx, fx1, fx2⟩ := ex136 (cm := cm) (B := B) w k (r := r) (by omega) true
    rw [if_pos rfl] at fx1
    by_cases c : bq = []
    · have ca : aBuf A = [] := List.length_eq_zero_iff.mp (by rw [← hlq, c]; rfl)
      rw [if_neg (fun z => z.1 ca)]
      refine ⟨hx, bq, lq, el, ?_, fx2, h0, by omega⟩
      simp only [j_X1_retireAll_b43, gd_true, ult, ubd, ukd, uwr, url, unz, uhI, uhR, uhL, upI, upR, upL, eKI, eKR, eKL, eNI, eNR, eNL, eTI, eTR, eTL, eIR, eIL, eRI, eRL, eLI, eLR, rIw, rRw, rLw, decide_true, decide_false, ne_eq, not_false_eq_true, not_true_eq_false, true_and, and_true, and_false, false_and, and_self, if_true, if_false, reduceIte, Nat.reduceEqDiff, decide_not, Bool.not_true, Bool.not_false, rq_k w, s5', s5, if_neg le, if_neg z10, wl.1, ie, if_pos c, fx1]
    · have hb : 0 < bq.length := List.length_pos_iff.mpr c
      have ca : aBuf A ≠ [] := fun z => by rw [z] at hlq; rw [hlq] at hb; exact absurd hb (by decide)
      have fr := rq_fr w hb
      have bf := k.b _ (gB_mem (A := A) (i := 0) (by omega))
      have cr := k_can w fr bf.1.2.2.1
      have gf := ll_first wl hb
      by_cases d : (gB A 0).1 14 = 101 ∧ ¬ aLacks A (gB A 0)
      · rw [if_pos d] at cr
        rw [if_pos ⟨ca, d⟩]
        have tr := k_trap w fr
        by_cases t : aTrap A (gB A 0) = 0
        · rw [if_pos t]
          have h16 : (gB A 0).1 16 = 0 := by
            unfold aTrap at t
            split at t
            · exact absurd t (by decide)
            · split at t
              · exact absurd t (by decide)
              · exact t
          obtain ⟨h1, el1, e1, w1, n1, l1⟩ := k_retire (cm := cm) (B := B) w k hb d.1 h16 h0 (by omega) (by split <;> omega) hB2
          have kr := ki_retire k (by omega)
          have s5r : aS (aRetire A) 5 = nI W := by
            rw [aRetire_eq]
            have a1 : ∀ f (X : AS), aS (aR4 f X) 5 = aS X 5 := fun f X => by
              have l5 : aS (aLearn f X) = aS X := aLearn_S
              unfold aR4
              dsimp only
              refine (aS_ne (j := 5) (k := 29) (by decide)).trans ?_
              split
              · refine (aS_ne (j := 5) (k := 17) (by decide)).trans ?_
                refine (aS_ne (j := 5) (k := 27) (by decide)).trans ?_
                refine (aS_ne (j := 5) (k := 42) (by decide)).trans ?_
                refine (aS_ne (j := 5) (k := 27) (by decide)).trans ?_
                rw [l5]
              · refine (aS_ne (j := 5) (k := 27) (by decide)).trans ?_
                rw [l5]
            have a2 : ∀ f (X : AS), aS (aR3 f X) = aS X := fun f X => by unfold aR3; split <;> rfl
            have a3 : ∀ f (X : AS), aS (aR2 f X) = aS X := fun f X => by unfold aR2; split <;> rfl
            rw [a1, a2, a3]
            exact s5
          obtain ⟨h', bq', lq', el', f1, f2, f3, f4⟩ := ra_l hW n (r + 1) m h1 (aRetire A) bq.tail lq el1 (by omega) (by omega) w1 kr s5r n1 (by omega) (by rw [l1]; omega) hB2
          refine ⟨h', bq', lq', el', ?_, f2, f3, by omega⟩
          have en : nI r + 1 = nI (r + 1) := by rw [nI_succ]
          simp only [j_X1_retireAll_b43, j_X1_retireAll_j110, j_X1_retireAll_j133, gd_true, ult, ubd, ukd, uwr, url, unz, uhI, uhR, uhL, upI, upR, upL, eKI, eKR, eKL, eNI, eNR, eNL, eTI, eTR, eTL, eIR, eIL, eRI, eRL, eLI, eLR, rIw, rRw, rLw, decide_true, decide_false, ne_eq, not_false_eq_true, not_true_eq_false, true_and, and_true, and_false, false_and, and_self, if_true, if_false, reduceIte, Nat.reduceEqDiff, decide_not, Bool.not_true, Bool.not_false, rq_k w, s5', s5, if_neg le, if_neg z10, wl.1, ie, if_neg c, gf, fr.1, cr, tr, if_pos t, e1, en]
          exact f1
        · rw [if_neg t]
          obtain ⟨h1, el1, e1, w1, n1, l1⟩ := k_takeTrap (cm := cm) (B := B) (t := aTrap A (gB A 0)) w k.th hb k.h h0 (by omega) (by split <;> omega) hB2
          obtain ⟨h', f1, f2⟩ := ex136 (cm := cm) (B := B) w1 (ki_takeTrap k) (r := r) (by omega) false
          rw [if_neg (by decide)] at f1
          obtain ⟨m, rfl⟩ : ∃ m', m = m' + 1 := ⟨m - 1, by omega⟩
          refine ⟨h', [], [], el1, ?_, f2, n1, by omega⟩
          have lx : j_X1_retireAll_l43 (m + 1) h1 e0 ic sp cm B p (nI r) 0 = some h' := by
            show j_X1_retireAll_b43 (j_X1_retireAll_l43 m) h1 e0 ic sp cm B p (nI r) 0 = _
            simp only [j_X1_retireAll_b43, if_true, f1]
          simp only [j_X1_retireAll_b43, j_X1_retireAll_j110, j_X1_retireAll_j133, gd_true, ult, ubd, ukd, uwr, url, unz, uhI, uhR, uhL, upI, upR, upL, eKI, eKR, eKL, eNI, eNR, eNL, eTI, eTR, eTL, eIR, eIL, eRI, eRL, eLI, eLR, rIw, rRw, rLw, decide_true, decide_false, ne_eq, not_false_eq_true, not_true_eq_false, true_and, and_true, and_false, false_and, and_self, if_true, if_false, reduceIte, Nat.reduceEqDiff, decide_not, Bool.not_true, Bool.not_false, rq_k w, s5', s5, if_neg le, if_neg z10, wl.1, ie, if_neg c, gf, fr.1, cr, tr, if_neg t, e1, lx]
      · rw [if_neg d] at cr
        rw [if_neg (fun z => d z.2)]
        refine ⟨hx, bq, lq, el, ?_, fx2, h0, by omega⟩
        simp only [j_X1_retireAll_b43, gd_true, ult, ubd, ukd, uwr, url, unz, uhI, uhR, uhL, upI, upR, upL, eKI, eKR, eKL, eNI, eNR, eNL, eTI, eTR, eTL, eIR, eIL, eRI, eRL, eLI, eLR, rIw, rRw, rLw, decide_true, decide_false, ne_eq, not_false_eq_true, not_true_eq_false, true_and, and_true, and_false, false_and, and_self, if_true, if_false, reduceIte, Nat.reduceEqDiff, decide_not, Bool.not_true, Bool.not_false, rq_k w, s5', s5, if_neg le, if_neg z10, wl.1, ie, if_neg c, gf, fr.1, cr, fx1]
theorem k_retireAll {h : zH} {A : AS} {bq lq pl el : List Nat} (w : RQ h p ic e0 sp A bq lq pl el) (k : KI N A) (h0 : 0 ∉ el) (hl : el.length + 5 < 100000) (hB : (el.length + 4) + (el.length + 4) / 2 + 1 ≤ B) (hB2 : B ≤ 60000000) :
    ∃ h' bq' lq' el', j_X1_retireAll h p e0 ic sp cm B = some h' ∧ RQ h' p ic e0 sp (aRetireAll A) bq' lq' pl el' ∧ 0 ∉ el' ∧ el'.length ≤ el.length + 4 := by
  obtain ⟨W, W1, W2, W3⟩ := k.w
  have s28 := rq_s w (k := 28) (by decide)
  obtain ⟨k2, v2⟩ := rk_g3 w.1
  have v42 : zI h 2 1 2 (zR h 1 1 4 p) = aS A 42 := v2 2 (by decide)
  have v41 : zI h 2 1 1 (zR h 1 1 4 p) = aS A 41 := v2 1 (by decide)
  obtain ⟨h', bq', lq', el', f1, f2, f3, f4⟩ := ra_l (cm := cm) (B := B) W2 W 0 5 h A bq lq el (by omega) (by omega) w k W3 h0 (by omega) (by omega) hB2
  have e39 : j_X1_retireAll_j39 h e0 ic sp cm B p = some h' := by
    unfold j_X1_retireAll_j39
    rw [← nI_0]; exact f1
  have eW : ix (aS A 5) = W := by rw [W3]; exact ix_nI (by omega)
  unfold aRetireAll
  dsimp only
  rw [eW]
  by_cases c : aS A 28 = 1 ∧ aS A 42 = 0 ∧ aS A 41 ≠ -1
  · rw [if_pos c]
    obtain ⟨h1, el1, e1, w1, n1, l1⟩ := k_takeInt (cm := cm) (B := B) w k.th h0 (by omega) (by split <;> omega) hB2
    obtain ⟨h2, e2, w2⟩ := k_lose w1 (j := 0) (by decide)
    have e2' : j_X1_lose h1 p 105 sp = some h2 := e2
    have n28 : ¬ aS A 28 = 0 := by rw [c.1]; decide
    refine ⟨h2, [], [], el1, ?_, w2, n1, by omega⟩
    simp only [j_X1_retireAll, gd_true, ult, ubd, ukd, uwr, url, unz, uhI, uhR, uhL, upI, upR, upL, eKI, eKR, eKL, eNI, eNR, eNL, eTI, eTR, eTL, eIR, eIL, eRI, eRL, eLI, eLR, rIw, rRw, rLw, decide_true, decide_false, ne_eq, not_false_eq_true, not_true_eq_false, true_and, and_true, and_false, false_and, and_self, if_true, if_false, reduceIte, Nat.reduceEqDiff, decide_not, Bool.not_true, Bool.not_false, rq_k w, s28, if_neg n28, k2, v42, if_pos c.2.1, v41, if_neg c.2.2, e1, rq_k w1, e2']
  · rw [if_neg c]
    refine ⟨h', bq', lq', el', ?_, f2, f3, by omega⟩
    by_cases c1 : aS A 28 = 0
    · simp only [j_X1_retireAll, gd_true, ult, ubd, ukd, uwr, url, unz, uhI, uhR, uhL, upI, upR, upL, eKI, eKR, eKL, eNI, eNR, eNL, eTI, eTR, eTL, eIR, eIL, eRI, eRL, eLI, eLR, rIw, rRw, rLw, decide_true, decide_false, ne_eq, not_false_eq_true, not_true_eq_false, true_and, and_true, and_false, false_and, and_self, if_true, if_false, reduceIte, Nat.reduceEqDiff, decide_not, Bool.not_true, Bool.not_false, rq_k w, s28, if_pos c1, e39]
    · by_cases c2 : aS A 42 = 0
      · have c3 : aS A 41 = -1 := by
          by_cases z : aS A 41 = -1
          · exact z
          · exact absurd ⟨k.i.resolve_left c1, c2, z⟩ c
        simp only [j_X1_retireAll, gd_true, ult, ubd, ukd, uwr, url, unz, uhI, uhR, uhL, upI, upR, upL, eKI, eKR, eKL, eNI, eNR, eNL, eTI, eTR, eTL, eIR, eIL, eRI, eRL, eLI, eLR, rIw, rRw, rLw, decide_true, decide_false, ne_eq, not_false_eq_true, not_true_eq_false, true_and, and_true, and_false, false_and, and_self, if_true, if_false, reduceIte, Nat.reduceEqDiff, decide_not, Bool.not_true, Bool.not_false, rq_k w, s28, if_neg c1, k2, v42, if_pos c2, v41, if_pos c3, e39]
      · simp only [j_X1_retireAll, gd_true, ult, ubd, ukd, uwr, url, unz, uhI, uhR, uhL, upI, upR, upL, eKI, eKR, eKL, eNI, eNR, eNL, eTI, eTR, eTL, eIR, eIL, eRI, eRL, eLI, eLR, rIw, rRw, rLw, decide_true, decide_false, ne_eq, not_false_eq_true, not_true_eq_false, true_and, and_true, and_false, false_and, and_self, if_true, if_false, reduceIte, Nat.reduceEqDiff, decide_not, Bool.not_true, Bool.not_false, rq_k w, s28, if_neg c1, k2, v42, if_neg c2, e39]
end KRET5
section KIRA
variable {N : Nat}
theorem aR_S5 : True := trivial
theorem ki_retL : ∀ (n r : Nat) (A : AS), KI N A → KI N (aRetLoop n r A).1
  | 0, r, A, w => w
  | n + 1, r, A, w => by
    show KI N (if aBuf A ≠ [] ∧ (gB A 0).1 14 = 101 ∧ ¬ aLacks A (gB A 0) then (if aTrap A (gB A 0) = 0 then aRetLoop n (r + 1) (aRetire A) else (aTakeTrap (aTrap A (gB A 0)) A, r, false)) else (A, r, true)).1
    split
    · rename_i c
      split
      · exact ki_retL n (r + 1) _ (ki_retire w (List.length_pos_iff.mpr c.1))
      · exact ki_takeTrap w
    · exact w
theorem ki_retireAll {A : AS} (w : KI N A) : KI N (aRetireAll A) := by
  unfold aRetireAll
  dsimp only
  split
  · exact ki_lose (ki_takeInt w)
  · split
    · exact ki_lose (ki_retL _ _ _ w)
    · exact ki_retL _ _ _ w
end KIRA

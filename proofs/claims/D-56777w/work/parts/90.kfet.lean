/-! FETCHING: the returns -/
set_option maxRecDepth 100000
theorem nI_sub {a b : Nat} (h : b ≤ a) : nI a - nI b = nI (a - b) := by
  have : nI a = nI (a - b) + nI b := by rw [nI_add, Nat.sub_add_cancel h]
  rw [this, Int32.add_sub_cancel]
section KFET
variable {ic e0 sp p : Nat} {A : AS} {bq lq pl el : List Nat}
theorem ps_l {h0 : zH} {l : List Int32} {x : Int32} {v : Nat} (w : RQ h0 p ic e0 sp A bq lq pl el) (hr : RT h0 (zR h0 1 1 19 p) l) (hv : v ≤ l.length ∧ v ≤ 3) : ∀ (n i : Nat) (h : zH), Ex h0 h → zK h (zT h0 + 1) = (201, 29) → zN h (zT h0 + 1) = v + 1 → (∀ j, j < i → zI h 201 29 j (zT h0 + 1) = l.getD (l.length - v + j) 0) → i ≤ v → v < n + i →
    ∃ h1, j_X1_push_l19 n h p x (nI v) (zT h0 + 1) (nI i) = some (sR h1 1 1 19 p (zT h0 + 1)) ∧ Ex h0 h1 ∧ zK h1 (zT h0 + 1) = (201, 29) ∧ zN h1 (zT h0 + 1) = v + 1 ∧ (∀ j, j < v → zI h1 201 29 j (zT h0 + 1) = l.getD (l.length - v + j) 0) ∧ zI h1 201 29 v (zT h0 + 1) = x
  | 0, i, h, a, k1, k2, hc, hi, hn => by omega
  | n + 1, i, h, a, k1, k2, hc, hi, hn => by
    have hl4 := hr.2.2.1
    have wk := rq_k w
    have kp : zK h p = (1, 1) := a.k wk (by decide)
    have ef : zR h 1 1 19 p = zR h0 1 1 19 p := a.r wk (by decide)
    have kold : zK h (zR h0 1 1 19 p) = (201, 29) := a.k hr.1 (by decide)
    have nold : zN h (zR h0 1 1 19 p) = l.length := by rw [a.n hr.1 (by decide)]; exact hr.2.1
    have z0 := new0 (rq_wf w)
    have nz : ¬ zT h0 + 1 = 0 := by omega
    show ∃ h1, j_X1_push_b19 (j_X1_push_l19 n) h p x (nI v) (zT h0 + 1) (nI i) = some _ ∧ _
    by_cases c : i = v
    · have le : nI v ≤ nI i := by rw [c]; exact (nI_leI (by omega) (by omega)).mpr (Nat.le_refl _)
      refine ⟨sI h 201 29 v (zT h0 + 1) x, ?_, a.sI z0, k1, k2, fun j hj => ?_, by rw [rIw, if_pos ⟨rfl, rfl, rfl, rfl⟩]⟩
      · simp only [j_X1_push_b19, gd_true, ult, ubd, ukd, uwr, url, unz, uhI, uhR, uhL, upI, upR, upL, eKI, eKR, eKL, eNI, eNR, eNL, eTI, eTR, eTL, eIR, eIL, eRI, eRL, eLI, eLR, rIw, rRw, rLw, decide_true, decide_false, ne_eq, not_false_eq_true, not_true_eq_false, true_and, and_true, and_false, false_and, and_self, if_true, if_false, reduceIte, Nat.reduceEqDiff, decide_not, Bool.not_true, Bool.not_false, if_pos le, k1, k2, inb_nI (show v < v + 1 by omega) (by omega), ix_nI (show v < 2 ^ 31 by omega), kp]
      · rw [rIw, if_neg (fun z => by have := z.2.2.1; omega)]
        exact hc j (by omega)
    · have le : ¬ nI v ≤ nI i := fun z => by have := (nI_leI (by omega) (by omega)).mp z; omega
      have ia : isA h (zR h0 1 1 19 p) = true := isA_of kold (by decide) (by decide)
      have ei : nI l.length - nI v + nI i = nI (l.length - v + i) := by rw [nI_sub hv.1, nI_add]
      have ev : zI h 201 29 (l.length - v + i) (zR h0 1 1 19 p) = l.getD (l.length - v + i) 0 := by rw [a.i hr.1 (by decide)]; exact hr.2.2.2 _ (by omega)
      obtain ⟨h1, f1, f2⟩ := ps_l w hr hv n (i + 1) (sI h 201 29 i (zT h0 + 1) (l.getD (l.length - v + i) 0)) (a.sI z0) k1 k2 (fun j hj => by
        by_cases e : j = i
        · rw [e, rIw, if_pos ⟨rfl, rfl, rfl, rfl⟩]
        · rw [rIw, if_neg (fun z => e z.2.2.1)]; exact hc j (by omega)) (by omega) (by omega)
      refine ⟨h1, ?_, f2⟩
      have en : nI i + 1 = nI (i + 1) := by rw [nI_succ]
      simp only [j_X1_push_b19, gd_true, ult, ubd, ukd, uwr, url, unz, uhI, uhR, uhL, upI, upR, upL, eKI, eKR, eKL, eNI, eNR, eNL, eTI, eTR, eTL, eIR, eIL, eRI, eRL, eLI, eLR, rIw, rRw, rLw, decide_true, decide_false, ne_eq, not_false_eq_true, not_true_eq_false, true_and, and_true, and_false, false_and, and_self, if_true, if_false, reduceIte, Nat.reduceEqDiff, decide_not, Bool.not_true, Bool.not_false, if_neg le, kp, ef, kold, nold, ia, ei, inb_nI (show l.length - v + i < l.length by omega) (by omega), ix_nI (show l.length - v + i < 2 ^ 31 by omega), ev, k1, k2, inb_nI (show i < v + 1 by omega) (by omega), ix_nI (show i < 2 ^ 31 by omega), en]
      exact f1
theorem k_push {h : zH} {x : Int32} (w : RQ h p ic e0 sp A bq lq pl el) : ∃ h1 x', j_X1_push h p x = some (sR h1 1 1 19 p x') ∧ Ex h h1 ∧ RT h1 x' (aPush x (aRet A)) := by
  have hr : RT h (zR h 1 1 19 p) (aRet A) := rk_g11 w.1
  have hl4 := hr.2.2.1
  obtain ⟨v, ev, hv⟩ : ∃ v, imn (nI (aRet A).length) 3 = nI v ∧ v = (if (aRet A).length = 4 then 3 else (aRet A).length) := by
    refine ⟨_, ?_, rfl⟩
    unfold imn
    by_cases c : (aRet A).length = 4
    · rw [if_pos c, c]; decide
    · rw [if_neg c, if_neg]
      intro z
      have : nI 3 < nI (aRet A).length := z
      have := (nI_ltI (by decide) (by omega)).mp this
      omega
  have hv2 : v ≤ (aRet A).length ∧ v ≤ 3 := by rw [hv]; split <;> omega
  have en : nI v + 1 = nI (v + 1) := by rw [nI_succ]
  have xn : ix (nI (v + 1)) = v + 1 := ix_nI (by omega)
  have ia : isA h (zR h 1 1 19 p) = true := isA_of hr.1 (by decide) (by decide)
  obtain ⟨h1, f1, f2, f3, f4, f5, f6⟩ := ps_l (x := x) w hr hv2 5 0 (nw h 201 29 (v + 1)) (Ex.rf (rq_wf w)).new nw_Ks nw_Ns (fun j hj => absurd hj (by omega)) (by omega) (by omega)
  refine ⟨h1, zT h + 1, ?_, f2, f3, ?_, ?_, ?_⟩
  · have as : asz (nI (v + 1)) 4 = true := by
      have : v + 1 = 1 ∨ v + 1 = 2 ∨ v + 1 = 3 ∨ v + 1 = 4 := by omega
      rcases this with e | e | e | e <;> (rw [e]; decide)
    have e0' : (0 : Int32) = nI 0 := by decide
    simp only [j_X1_push, gd_true, ult, ubd, ukd, uwr, url, unz, uhI, uhR, uhL, upI, upR, upL, eKI, eKR, eKL, eNI, eNR, eNL, eTI, eTR, eTL, eIR, eIL, eRI, eRL, eLI, eLR, rIw, rRw, rLw, decide_true, decide_false, ne_eq, not_false_eq_true, not_true_eq_false, true_and, and_true, and_false, false_and, and_self, if_true, if_false, reduceIte, Nat.reduceEqDiff, decide_not, Bool.not_true, Bool.not_false, rq_k w, ia, hr.2.1, ev, en, xn, as]
    rw [e0']
    exact f1
  · rw [f4]
    unfold aPush
    rw [List.length_append]
    by_cases c : (aRet A).length = 4
    · rw [if_pos c] at hv ⊢; rw [hv, List.length_tail, c]; rfl
    · rw [if_neg c] at hv ⊢; rw [hv]; rfl
  · unfold aPush
    rw [List.length_append]
    by_cases c : (aRet A).length = 4
    · rw [if_pos c, List.length_tail, c]; show 4 - 1 + 1 ≤ 4; decide
    · rw [if_neg c]; simp; omega
  · intro i hi
    have hl : (aPush x (aRet A)).length = v + 1 := by
      unfold aPush
      rw [List.length_append]
      by_cases c : (aRet A).length = 4
      · rw [if_pos c] at hv ⊢; rw [hv, List.length_tail, c]; rfl
      · rw [if_neg c] at hv ⊢; rw [hv]; rfl
    rw [hl] at hi
    by_cases ci : i < v
    · rw [f5 i ci]
      unfold aPush
      by_cases c : (aRet A).length = 4
      · rw [if_pos c] at hv ⊢
        rw [getD_app1 (by rw [List.length_tail]; omega), tail_getD]
        congr 1; omega
      · rw [if_neg c] at hv ⊢
        rw [getD_app1 (by omega)]
        congr 1; omega
    · have : i = v := by omega
      rw [this, f6]
      unfold aPush
      by_cases c : (aRet A).length = 4
      · rw [if_pos c] at hv ⊢
        have : v = (aRet A).tail.length := by rw [List.length_tail]; omega
        rw [this]; exact getD_app2.symm
      · rw [if_neg c] at hv ⊢
        rw [hv]; exact getD_app2.symm
theorem pp_l {h0 : zH} {l : List Int32} {v : Nat} (w : RQ h0 p ic e0 sp A bq lq pl el) (hr : RT h0 (zR h0 1 1 19 p) l) (hv : l.length = v + 1) : ∀ (n i : Nat) (h : zH), Ex h0 h → zK h (zT h0 + 1) = (201, 29) → zN h (zT h0 + 1) = v → (∀ j, j < i → zI h 201 29 j (zT h0 + 1) = l.getD j 0) → i ≤ v → v < n + i →
    ∃ h1, j_X1_pop_l22 n h p (zT h0 + 1) (nI i) = some (sR h1 1 1 19 p (zT h0 + 1), l.getD v 0) ∧ Ex h0 h1 ∧ zK h1 (zT h0 + 1) = (201, 29) ∧ zN h1 (zT h0 + 1) = v ∧ (∀ j, j < v → zI h1 201 29 j (zT h0 + 1) = l.getD j 0)
  | 0, i, h, a, k1, k2, hc, hi, hn => by omega
  | n + 1, i, h, a, k1, k2, hc, hi, hn => by
    have hl4 := hr.2.2.1
    have wk := rq_k w
    have kp : zK h p = (1, 1) := a.k wk (by decide)
    have ef : zR h 1 1 19 p = zR h0 1 1 19 p := a.r wk (by decide)
    have kold : zK h (zR h0 1 1 19 p) = (201, 29) := a.k hr.1 (by decide)
    have nold : zN h (zR h0 1 1 19 p) = l.length := by rw [a.n hr.1 (by decide)]; exact hr.2.1
    have z0 := new0 (rq_wf w)
    have ia : isA h (zT h0 + 1) = true := isA_of k1 (by decide) (by decide)
    show ∃ h1, j_X1_pop_b22 (j_X1_pop_l22 n) h p (zT h0 + 1) (nI i) = some _ ∧ _
    have ev : ∀ j, j < l.length → zI h 201 29 j (zR h0 1 1 19 p) = l.getD j 0 := fun j hj => by rw [a.i hr.1 (by decide)]; exact hr.2.2.2 _ hj
    by_cases c : i = v
    · have le : nI v ≤ nI i := by rw [c]; exact (nI_leI (by omega) (by omega)).mpr (Nat.le_refl _)
      refine ⟨h, ?_, a, k1, k2, fun j hj => hc j (by omega)⟩
      simp only [j_X1_pop_b22, gd_true, ult, ubd, ukd, uwr, url, unz, uhI, uhR, uhL, upI, upR, upL, eKI, eKR, eKL, eNI, eNR, eNL, eTI, eTR, eTL, eIR, eIL, eRI, eRL, eLI, eLR, rIw, rRw, rLw, decide_true, decide_false, ne_eq, not_false_eq_true, not_true_eq_false, true_and, and_true, and_false, false_and, and_self, if_true, if_false, reduceIte, Nat.reduceEqDiff, decide_not, Bool.not_true, Bool.not_false, ia, k2, if_pos le, kp, ef, kold, nold, inb_nI (show v < l.length by omega) (by omega), ix_nI (show v < 2 ^ 31 by omega), ev v (by omega)]
    · have le : ¬ nI v ≤ nI i := fun z => by have := (nI_leI (by omega) (by omega)).mp z; omega
      obtain ⟨h1, f1, f2⟩ := pp_l w hr hv n (i + 1) (sI h 201 29 i (zT h0 + 1) (l.getD i 0)) (a.sI z0) k1 k2 (fun j hj => by
        by_cases e : j = i
        · rw [e, rIw, if_pos ⟨rfl, rfl, rfl, rfl⟩]
        · rw [rIw, if_neg (fun z => e z.2.2.1)]; exact hc j (by omega)) (by omega) (by omega)
      refine ⟨h1, ?_, f2⟩
      have en : nI i + 1 = nI (i + 1) := by rw [nI_succ]
      simp only [j_X1_pop_b22, gd_true, ult, ubd, ukd, uwr, url, unz, uhI, uhR, uhL, upI, upR, upL, eKI, eKR, eKL, eNI, eNR, eNL, eTI, eTR, eTL, eIR, eIL, eRI, eRL, eLI, eLR, rIw, rRw, rLw, decide_true, decide_false, ne_eq, not_false_eq_true, not_true_eq_false, true_and, and_true, and_false, false_and, and_self, if_true, if_false, reduceIte, Nat.reduceEqDiff, decide_not, Bool.not_true, Bool.not_false, ia, k2, if_neg le, kp, ef, kold, nold, inb_nI (show i < l.length by omega) (by omega), ix_nI (show i < 2 ^ 31 by omega), ev i (by omega), k1, inb_nI (show i < v by omega) (by omega), en]
      exact f1
theorem k_pop {h : zH} {x : Int32} (w : RQ h p ic e0 sp A bq lq pl el) (hne : aRet A ≠ []) : ∃ h1 x', j_X1_pop h p x = some (sR h1 1 1 19 p x', (aRet A).getLastD 0) ∧ Ex h h1 ∧ RT h1 x' (aRet A).dropLast := by
  have hr : RT h (zR h 1 1 19 p) (aRet A) := rk_g11 w.1
  have hl4 := hr.2.2.1
  have h0 : 0 < (aRet A).length := List.length_pos_iff.mpr hne
  obtain ⟨v, hv⟩ : ∃ v, (aRet A).length = v + 1 := ⟨(aRet A).length - 1, by omega⟩
  have ia : isA h (zR h 1 1 19 p) = true := isA_of hr.1 (by decide) (by decide)
  have nz : ¬ nI (v + 1) = 0 := fun z => by rw [← nI_0] at z; have := (nI_eq (by omega) (by omega)).mp z; omega
  have e1 : nI (v + 1) - 1 = nI v := by rw [nI_m1 (by omega)]; rfl
  have xn : ix (nI v) = v := ix_nI (by omega)
  have as : asz (nI v) 4 = true := by
    have : v = 0 ∨ v = 1 ∨ v = 2 ∨ v = 3 := by omega
    rcases this with e | e | e | e <;> (rw [e]; decide)
  obtain ⟨h1, f1, f2, f3, f4, f5⟩ := pp_l w hr hv 5 0 (nw h 201 29 v) (Ex.rf (rq_wf w)).new nw_Ks nw_Ns (fun j hj => absurd hj (by omega)) (by omega) (by omega)
  have e0' : (0 : Int32) = nI 0 := by decide
  refine ⟨h1, zT h + 1, ?_, f2, f3, by rw [f4, List.length_dropLast]; omega, by rw [List.length_dropLast]; omega, fun i hi => ?_⟩
  · have el : (aRet A).getLastD 0 = (aRet A).getD v 0 := by
      rw [List.getLastD_eq_getLast?, List.getLast?_eq_getElem?, List.getD]
      congr 2; omega
    rw [el]
    rw [← f1]
    simp only [j_X1_pop, gd_true, ult, ubd, ukd, uwr, url, unz, uhI, uhR, uhL, upI, upR, upL, eKI, eKR, eKL, eNI, eNR, eNL, eTI, eTR, eTL, eIR, eIL, eRI, eRL, eLI, eLR, rIw, rRw, rLw, decide_true, decide_false, ne_eq, not_false_eq_true, not_true_eq_false, true_and, and_true, and_false, false_and, and_self, if_true, if_false, reduceIte, Nat.reduceEqDiff, decide_not, Bool.not_true, Bool.not_false, rq_k w, ia, hr.2.1, hv, if_neg nz, e1, xn, as]
    rw [← e0']
  · rw [List.length_dropLast] at hi
    rw [f5 i (by omega), getD_dl hi]
end KFET

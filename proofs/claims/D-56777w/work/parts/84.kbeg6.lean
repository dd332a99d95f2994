/-! BEGINNINGS: all -/
set_option maxRecDepth 100000
theorem qsOf_cnt : ∀ (qs : List Nat) (fs : List FL), qs.length = fs.length → (qsOf qs fs).length = (fs.filter fun f => decide (f.1 14 = 113)).length
  | [], [], _ => rfl
  | q :: qs, f :: fs, h => by
    have ih := qsOf_cnt qs fs (by simpa using h)
    show (if f.1 14 = 113 then q :: qsOf qs fs else qsOf qs fs).length = ((f :: fs).filter _).length
    rw [List.filter_cons]
    by_cases c : f.1 14 = 113
    · rw [if_pos c, if_pos (decide_eq_true c)]; simp [ih]
    · rw [if_neg c, if_neg (fun z => c (of_decide_eq_true z))]; exact ih
section KBEG7
variable {ic e0 sp p N : Nat} {bq lq pl el : List Nat}
theorem k_beginAll {h : zH} {A : AS} (w : RQ h p ic e0 sp A bq lq pl el) (k : KI N A) (hN : N < 900000) : ∃ h', j_X1_beginAll h p = some h' ∧ RQ h' p ic e0 sp (aBeginAll A) bq lq pl el ∧ KI (N + 16) (aBeginAll A) := by
  have hw := rq_wf w
  have hl := rq_len w
  have hb := rk_lb w.1
  have c1 : Ch [(6, 1), (16, 54)] h (nw h 6 1 0) := Ch.rf.nw hw (by simp)
  have w1 := rq_its' w c1 (by decide)
  obtain ⟨h2, e2, c2⟩ := k_dividing w1
  have w2 := rq_its' w1 c2 (by decide)
  have kr : zK h2 (zT h + 1) = (6, 1) := c2.k (nw_Ks (h := h) (n := 0)) (by decide)
  have n0 : nzr (zT h + 1) = true := decide_eq_true (by omega)
  obtain ⟨h3, e3, u3, c3⟩ : ∃ h3, j_X6_init h2 (zT h + 1) (if aBusy A then 1 else 0) = some h3 ∧ UR h3 (zT h + 1) (2, 1, (if aBusy A then 0 else 1), 1) ∧ Ch [(6, 1)] h2 h3 := by
    have z10 : ¬ (1 : Int32) = 0 := by decide
    by_cases c : aBusy A
    · rw [if_pos c, if_pos c]
      refine ⟨sI (sI (sI (sI h2 6 1 0 (zT h + 1) 2) 6 1 1 (zT h + 1) 1) 6 1 3 (zT h + 1) 1) 6 1 2 (zT h + 1) 0, ?_, ⟨kr, ?_, ?_, ?_, ?_, by decide, by decide, by decide, by decide⟩, (((Ch.rf.sI (by simp)).sI (by simp)).sI (by simp)).sI (by simp)⟩
      · simp only [j_X6_init, j_X6_init_j29, gd_true, ult, ubd, ukd, uwr, url, unz, uhI, uhR, uhL, upI, upR, upL, eKI, eKR, eKL, eNI, eNR, eNL, eTI, eTR, eTL, eIR, eIL, eRI, eRL, eLI, eLR, rIw, rRw, rLw, decide_true, decide_false, ne_eq, not_false_eq_true, not_true_eq_false, true_and, and_true, and_false, false_and, and_self, if_true, if_false, reduceIte, Nat.reduceEqDiff, decide_not, Bool.not_true, Bool.not_false, n0, kr, if_neg z10]
      · simp only [gd_true, ult, ubd, ukd, uwr, url, unz, uhI, uhR, uhL, upI, upR, upL, eKI, eKR, eKL, eNI, eNR, eNL, eTI, eTR, eTL, eIR, eIL, eRI, eRL, eLI, eLR, rIw, rRw, rLw, decide_true, decide_false, ne_eq, not_false_eq_true, not_true_eq_false, true_and, and_true, and_false, false_and, and_self, if_true, if_false, reduceIte, Nat.reduceEqDiff, decide_not, Bool.not_true, Bool.not_false]; rfl
      · simp only [gd_true, ult, ubd, ukd, uwr, url, unz, uhI, uhR, uhL, upI, upR, upL, eKI, eKR, eKL, eNI, eNR, eNL, eTI, eTR, eTL, eIR, eIL, eRI, eRL, eLI, eLR, rIw, rRw, rLw, decide_true, decide_false, ne_eq, not_false_eq_true, not_true_eq_false, true_and, and_true, and_false, false_and, and_self, if_true, if_false, reduceIte, Nat.reduceEqDiff, decide_not, Bool.not_true, Bool.not_false]; rfl
      · simp only [gd_true, ult, ubd, ukd, uwr, url, unz, uhI, uhR, uhL, upI, upR, upL, eKI, eKR, eKL, eNI, eNR, eNL, eTI, eTR, eTL, eIR, eIL, eRI, eRL, eLI, eLR, rIw, rRw, rLw, decide_true, decide_false, ne_eq, not_false_eq_true, not_true_eq_false, true_and, and_true, and_false, false_and, and_self, if_true, if_false, reduceIte, Nat.reduceEqDiff, decide_not, Bool.not_true, Bool.not_false]; rfl
      · simp only [gd_true, ult, ubd, ukd, uwr, url, unz, uhI, uhR, uhL, upI, upR, upL, eKI, eKR, eKL, eNI, eNR, eNL, eTI, eTR, eTL, eIR, eIL, eRI, eRL, eLI, eLR, rIw, rRw, rLw, decide_true, decide_false, ne_eq, not_false_eq_true, not_true_eq_false, true_and, and_true, and_false, false_and, and_self, if_true, if_false, reduceIte, Nat.reduceEqDiff, decide_not, Bool.not_true, Bool.not_false]; rfl
    · rw [if_neg c, if_neg c]
      refine ⟨sI (sI (sI (sI h2 6 1 0 (zT h + 1) 2) 6 1 1 (zT h + 1) 1) 6 1 3 (zT h + 1) 1) 6 1 2 (zT h + 1) 1, ?_, ⟨kr, ?_, ?_, ?_, ?_, by decide, by decide, by decide, by decide⟩, (((Ch.rf.sI (by simp)).sI (by simp)).sI (by simp)).sI (by simp)⟩
      · simp only [j_X6_init, j_X6_init_j29, gd_true, ult, ubd, ukd, uwr, url, unz, uhI, uhR, uhL, upI, upR, upL, eKI, eKR, eKL, eNI, eNR, eNL, eTI, eTR, eTL, eIR, eIL, eRI, eRL, eLI, eLR, rIw, rRw, rLw, decide_true, decide_false, ne_eq, not_false_eq_true, not_true_eq_false, true_and, and_true, and_false, false_and, and_self, if_true, if_false, reduceIte, Nat.reduceEqDiff, decide_not, Bool.not_true, Bool.not_false, n0, kr]
      · simp only [gd_true, ult, ubd, ukd, uwr, url, unz, uhI, uhR, uhL, upI, upR, upL, eKI, eKR, eKL, eNI, eNR, eNL, eTI, eTR, eTL, eIR, eIL, eRI, eRL, eLI, eLR, rIw, rRw, rLw, decide_true, decide_false, ne_eq, not_false_eq_true, not_true_eq_false, true_and, and_true, and_false, false_and, and_self, if_true, if_false, reduceIte, Nat.reduceEqDiff, decide_not, Bool.not_true, Bool.not_false]; rfl
      · simp only [gd_true, ult, ubd, ukd, uwr, url, unz, uhI, uhR, uhL, upI, upR, upL, eKI, eKR, eKL, eNI, eNR, eNL, eTI, eTR, eTL, eIR, eIL, eRI, eRL, eLI, eLR, rIw, rRw, rLw, decide_true, decide_false, ne_eq, not_false_eq_true, not_true_eq_false, true_and, and_true, and_false, false_and, and_self, if_true, if_false, reduceIte, Nat.reduceEqDiff, decide_not, Bool.not_true, Bool.not_false]; rfl
      · simp only [gd_true, ult, ubd, ukd, uwr, url, unz, uhI, uhR, uhL, upI, upR, upL, eKI, eKR, eKL, eNI, eNR, eNL, eTI, eTR, eTL, eIR, eIL, eRI, eRL, eLI, eLR, rIw, rRw, rLw, decide_true, decide_false, ne_eq, not_false_eq_true, not_true_eq_false, true_and, and_true, and_false, false_and, and_self, if_true, if_false, reduceIte, Nat.reduceEqDiff, decide_not, Bool.not_true, Bool.not_false]; rfl
      · simp only [gd_true, ult, ubd, ukd, uwr, url, unz, uhI, uhR, uhL, upI, upR, upL, eKI, eKR, eKL, eNI, eNR, eNL, eTI, eTR, eTL, eIR, eIL, eRI, eRL, eLI, eLR, rIw, rRw, rLw, decide_true, decide_false, ne_eq, not_false_eq_true, not_true_eq_false, true_and, and_true, and_false, false_and, and_self, if_true, if_false, reduceIte, Nat.reduceEqDiff, decide_not, Bool.not_true, Bool.not_false]; rfl
  have w3 := rq_its' w2 c3 (by decide)
  obtain ⟨ns, wl⟩ := w3.2
  have hq : (qsOf bq (aBuf A)).length ≤ 8 := by
    obtain ⟨n, a, b, c, d⟩ := k.q
    rw [qsOf_cnt _ _ hl]
    exact Nat.le_trans d b
  obtain ⟨h4, it, e4, wl4, v4, c4⟩ := ll_iterator wl (rq_wf w3) (by decide) (by omega)
  have w4 : RK h4 p ic e0 sp A bq lq pl el := rk_its w3.1 (c4.sub (by simp))
  obtain ⟨h', f1, f2, f3⟩ := ba_l (M := N + 16) (ql := zR h3 1 1 16 p) bq.length 0 10 N h4 A (2, 1, (if aBusy A then 0 else 1), 1) ns 0 (by omega) (by omega) w4 k (by omega) (by omega) (u3.keep c4 (by decide)) (by rw [c4.r (by decide)]) wl4 v4 (by omega)
  refine ⟨h', ?_, by unfold aBeginAll; rw [← hl]; exact f2, by unfold aBeginAll; rw [← hl]; exact f3⟩
  have kn : zK (nw h 6 1 0) p = (1, 1) := rq_k w1
  simp only [j_X1_beginAll, gd_true, ult, ubd, ukd, uwr, url, unz, uhI, uhR, uhL, upI, upR, upL, eKI, eKR, eKL, eNI, eNR, eNL, eTI, eTR, eTL, eIR, eIL, eRI, eRL, eLI, eLR, rIw, rRw, rLw, decide_true, decide_false, ne_eq, not_false_eq_true, not_true_eq_false, true_and, and_true, and_false, false_and, and_self, if_true, if_false, reduceIte, Nat.reduceEqDiff, decide_not, Bool.not_true, Bool.not_false, kn, e2, n0, e3, rq_k w3, wl.1, e4]
  exact f1
end KBEG7

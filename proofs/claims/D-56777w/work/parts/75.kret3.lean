/-! RETIRING: interrupt, trap -/
set_option maxRecDepth 100000
theorem aThrL_o : ∀ (n : Nat) (B : AS), (∀ k, k ≠ 34 → aS (aThrLoop n B) k = aS B k) ∧ aEnd (aThrLoop n B) = aEnd B
  | 0, B => ⟨fun _ _ => rfl, rfl⟩
  | n + 1, B => by
    obtain ⟨a1, a2⟩ := aThrL_o n (aUndo (gB B ((aBuf B).length - 1)) (wBuf B (aBuf B).dropLast))
    refine ⟨fun k hk => (a1 k hk).trans ?_, a2.trans ?_⟩
    · unfold aUndo
      split
      · exact aS_ne (A := B) (j := k) (k := 34) (v := aS B 34 + 1) hk
      · exact aS_ne (A := B) (j := k) (k := 34) (v := aS B 34 + 1) hk
    · unfold aUndo
      split <;> rfl
theorem aThrowAll_o {B : AS} : (∀ k, k ≠ 34 → aS (aThrowAll B) k = aS B k) ∧ aEnd (aThrowAll B) = aEnd B := aThrL_o ((aBuf B).length - 0) (wLine B [])
section KRET3
variable {ic e0 sp cm B p : Nat} {h : zH} {A : AS} {bq lq pl el : List Nat}
theorem rk_el {el' : List Nat} (w : RK h p ic e0 sp A bq lq pl el) (n1 : G9 h p e0 el' (aEnd A)) (n2 : GD h el' bq lq) : RK h p ic e0 sp A bq lq pl el' := by
  obtain ⟨w0, wk, g1, g2, g3, g4, g5, g6, g7, g8, g9, g10, g11, fb, fl, nd, lb, ll, gd, gs⟩ := w
  exact ⟨w0, wk, g1, g2, g3, g4, g5, g6, g7, g8, n1, g10, g11, fb, fl, nd, lb, ll, n2, gs⟩
theorem fq_n0 {qs : List Nat} {fs : List FL} (w : FQ h pl qs fs) (hw : zWf h) : 0 ∉ qs := fun z => by
  obtain ⟨i, hi, e⟩ := List.mem_iff_getElem.mp z
  have := (w.2 i hi).1
  rw [getD_lt hi, e] at this
  exact wf_n0 hw this (by decide) rfl
theorem k_takeInt (w : RQ h p ic e0 sp A bq lq pl el) (th : thOk A) (h0 : 0 ∉ el) (hl : el.length + 1 < 100000) (hB : el.length + (if el.length / 2 ≤ 1 then 1 else el.length / 2) ≤ B) (hB2 : B ≤ 60000000) :
    ∃ h' el', j_X1_takeInterrupt h p e0 ic cm B = some h' ∧ RQ h' p ic e0 sp (aTakeInt A) [] [] pl el' ∧ 0 ∉ el' ∧ el'.length = el.length + 1 := by
  have w1 : RQ (sI h 1 1 28 p 0) p ic e0 sp (wS A 28 0) bq lq pl el := rq_wS w (by decide)
  obtain ⟨h2, f1, kk, c2, g9, r3, ro⟩ := k_newEnd (cm := cm) (e := aEndIn (aS A 27) (aS A 26)) w1 (k := 9) (pp := aS A 27) (c := aS A 26) (q := 0) rfl rfl rfl (Or.inl ⟨rfl, rfl⟩) h0 hl hB hB2
  have gd : GD h2 (el ++ [zT (sI h 1 1 28 p 0) + 1]) bq lq := Or.inr fun x hx => by
    rcases List.mem_append.mp hx with z | z
    · rw [ro x z]; exact (rk_gd w1.1).resolve_left h0 x z
    · rw [List.mem_singleton.mp z, r3]; exact ⟨fq_n0 (rk_fb w.1) (rq_wf w), fq_n0 (rk_fl w.1) (rq_wf w)⟩
  have w2 := rq_set9 w1 c2 (Or.inr g9) gd
  obtain ⟨h3, e3, w3, -⟩ := k_throwAll w2 (th.eq (aS_ne (A := A) (j := 0) (k := 28) (v := 0) (by decide)) (fun _ => rfl) rfl rfl)
  have s27 : zI h3 1 1 27 p = aS A 27 := by
    rw [rq_s w3 (k := 27) (by decide), aThrowAll_o.1 27 (by decide)]
    exact aS_ne (A := A) (j := 27) (k := 28) (v := 0) (by decide)
  obtain ⟨k2, v2⟩ := rk_g3 w3.1
  have v41 := v2 1 (by decide)
  have w4 := rq_w3 (v := 1) w3 (j := 2) (by decide)
  have w5 : RQ (sI (sI h3 2 1 2 (zR h3 1 1 4 p) 1) 2 1 3 (zR h3 1 1 4 p) (aS A 27)) p ic e0 sp _ [] [] pl _ := rq_w3 (v := aS A 27) w4 (j := 3) (by decide)
  have w6 := rq_wS (k := 27) (v := zI h3 2 1 1 (zR h3 1 1 4 p)) w5 (by decide)
  have w7 := rq_wS (k := 17) (v := zI h3 2 1 1 (zR h3 1 1 4 p)) w6 (by decide)
  refine ⟨sI (sI (sI (sI h3 2 1 2 (zR h3 1 1 4 p) 1) 2 1 3 (zR h3 1 1 4 p) (aS A 27)) 1 1 27 p (zI h3 2 1 1 (zR h3 1 1 4 p))) 1 1 17 p (zI h3 2 1 1 (zR h3 1 1 4 p)), el ++ [zT h + 1], ?_, ?_, ?_, ?_⟩
  rotate_left
  · have e9 : aTakeInt A = wS (wS (wS (wS (aThrowAll (wEnd (wS A 28 0) (aEnd (wS A 28 0) ++ [aEndIn (aS A 27) (aS A 26)]))) (40 + 2) 1) (40 + 3) (aS A 27)) 27 (zI h3 2 1 1 (zR h3 1 1 4 p))) 17 (zI h3 2 1 1 (zR h3 1 1 4 p)) := by
      rw [v41]
      unfold aTakeInt
      dsimp only
      rw [aS_ne (j := 41) (k := 43) (by decide), aS_ne (j := 41) (k := 42) (by decide)]
      rfl
    rw [e9]
    exact w7
  · simp [h0]
  · simp
  · have n0 : nzr (zT h + 1) = true := decide_eq_true (by omega)
    have s27a := rq_s w (k := 27) (by decide)
    have s26a := rq_s w (k := 26) (by decide)
    have ei : j_X5_init (nw (sI h 1 1 28 p 0) 5 1 0) (zT h + 1) 9 (aS A 27) (aS A 26) 0 = some (hEnd (sI h 1 1 28 p 0) 9 (aS A 27) (aS A 26) 0) := hEnd_init
    have f1' : j_J2_add (hEnd (sI h 1 1 28 p 0) 9 (aS A 27) (aS A 26) 0) (zR h 1 1 30 p) (zT h + 1) e0 cm B = some (h2, 1) := f1
    have kk' : zK (hEnd (sI h 1 1 28 p 0) 9 (aS A 27) (aS A 26) 0) (zR h 1 1 30 p) = (10, 58) := kk
    have kn : zK (nw (sI h 1 1 28 p 0) 5 1 0) p = (1, 1) := nw_K (rq_wf w1) (rq_k w1) (by decide)
    simp only [j_X1_takeInterrupt, j_X2_interrupt, gd_true, ult, ubd, ukd, uwr, url, unz, uhI, uhR, uhL, upI, upR, upL, eKI, eKR, eKL, eNI, eNR, eNL, eTI, eTR, eTL, eIR, eIL, eRI, eRL, eLI, eLR, rIw, rRw, rLw, decide_true, decide_false, ne_eq, not_false_eq_true, not_true_eq_false, true_and, and_true, and_false, false_and, and_self, if_true, if_false, reduceIte, Nat.reduceEqDiff, decide_not, Bool.not_true, Bool.not_false, rIn, rRn, rq_k w, kn, s27a, s26a, n0, ei, kk', f1', rq_k w2, e3, rq_k w3, s27, k2]
/-! a trap -/
theorem k_takeTrap (w : RQ h p ic e0 sp A bq lq pl el) (th : thOk A) (hb : 0 < bq.length) (s42 : aS A 42 = 0 ∨ aS A 42 = 1) {t : Int32} (h0 : 0 ∉ el) (hl : el.length + 1 < 100000) (hB : el.length + (if el.length / 2 ≤ 1 then 1 else el.length / 2) ≤ B) (hB2 : B ≤ 60000000) :
    ∃ h' el', j_X1_takeTrap h p (bq.getD 0 0) t e0 ic cm B = some h' ∧ RQ h' p ic e0 sp (aTakeTrap t A) [] [] pl el' ∧ 0 ∉ el' ∧ el'.length = el.length + 1 := by
  have fr := rq_fr w hb
  obtain ⟨h2, f1, kk, c2, g9, r3, ro⟩ := k_newEnd (cm := cm) (e := aEndOf t ((gB A 0).1 1) (aS A 26) (gB A 0)) w (k := t) (pp := (gB A 0).1 1) (c := aS A 26) (q := bq.getD 0 0) rfl rfl rfl (Or.inr ⟨rfl, fr.1, fr_i fr (k := 2) (by decide), fr_i fr (k := 7) (by decide), fr_i fr (k := 8) (by decide), fr_i fr (k := 9) (by decide)⟩) h0 hl hB hB2
  have w2 : RQ h2 p ic e0 sp (wEnd A (aEnd A ++ [aEndOf t ((gB A 0).1 1) (aS A 26) (gB A 0)])) bq lq pl [0] := rq_set9 w c2 (Or.inl (by simp)) (Or.inl (by simp))
  obtain ⟨h3, e3, w3, c3, i3, r30⟩ := k_throwAll w2 (th.eq rfl (fun _ => rfl) rfl rfl)
  have g3 : G9a h3 p e0 (el ++ [zT h + 1]) (aEnd A ++ [aEndOf t ((gB A 0).1 1) (aS A 26) (gB A 0)]) := by
    obtain ⟨a1, a2, a3⟩ := g9
    refine ⟨by rw [r30]; exact a1.keep c3 (by decide) (by decide), a2, fun i hi => ?_⟩
    obtain ⟨b1, b2, b3, b4, b5⟩ := a3 i hi
    refine ⟨c3.k b1 (by decide), by rw [c3.i (by decide)]; exact b2, by rw [c3.i (by decide)]; exact b3, by rw [c3.i (by decide)]; exact b4, ?_⟩
    rw [c3.r (by decide)]
    refine b5.imp id fun z => ?_
    obtain ⟨z1, z2, z3, z4, z5, z6⟩ := z
    exact ⟨z1, c3.k z2 (by decide), (i3 _ _ (by decide)).trans z3, (i3 _ _ (by decide)).trans z4, (i3 _ _ (by decide)).trans z5, (i3 _ _ (by decide)).trans z6⟩
  have w3' : RQ h3 p ic e0 sp (aThrowAll (wEnd A (aEnd A ++ [aEndOf t ((gB A 0).1 1) (aS A 26) (gB A 0)]))) [] [] pl (el ++ [zT h + 1]) := ⟨rk_el w3.1 (by rw [aThrowAll_o.2]; exact Or.inr g3) (Or.inr fun x hx => ⟨by simp, by simp⟩), w3.2⟩
  have so : ∀ k, k ≠ 34 → aS (aThrowAll (wEnd A (aEnd A ++ [aEndOf t ((gB A 0).1 1) (aS A 26) (gB A 0)]))) k = aS A k := aThrowAll_o.1
  obtain ⟨k2, v2⟩ := rk_g3 w3'.1
  have v40 : zI h3 2 1 0 (zR h3 1 1 4 p) = aS A 40 := (v2 0 (by decide)).trans (so 40 (by decide))
  have v42 : zI h3 2 1 2 (zR h3 1 1 4 p) = aS A 42 := (v2 2 (by decide)).trans (so 42 (by decide))
  have e1 : zI h3 8 1 1 (bq.getD 0 0) = (gB A 0).1 1 := by rw [i3 1 _ (by decide), c2.i (by decide)]; exact fr_i fr (k := 1) (by decide)
  have kq3 : zK h3 (bq.getD 0 0) = (8, 1) := c3.k (c2.k fr.1 (by decide)) (by decide)
  have s26a := rq_s w (k := 26) (by decide)
  have n0 : nzr (zT h + 1) = true := decide_eq_true (by omega)
  have e1h := fr_i fr (k := 1) (by decide)
  have ei : j_X5_init (nw h 5 1 0) (zT h + 1) t ((gB A 0).1 1) (aS A 26) (bq.getD 0 0) = some (hEnd h t ((gB A 0).1 1) (aS A 26) (bq.getD 0 0)) := hEnd_init
  have kn : zK (nw h 5 1 0) p = (1, 1) := nw_K (rq_wf w) (rq_k w) (by decide)
  have kn8 : zK (nw h 5 1 0) (bq.getD 0 0) = (8, 1) := nw_K (rq_wf w) fr.1 (by decide)
  have y1 : b01 1 = true := by decide
  have y0 : b01 0 = true := by decide
  generalize hAA : aThrowAll (wEnd A (aEnd A ++ [aEndOf t ((gB A 0).1 1) (aS A 26) (gB A 0)])) = AA at w3' so
  have mo : aTakeTrap t A = wS (wS (wS (if aS A 42 = 1 ∨ aS A 40 = -1 then AA else wS (wS AA 42 1) 43 ((gB A 0).1 1 + 1)) 27 (if aS A 42 = 1 ∨ aS A 40 = -1 then -1 else aS A 40)) 29 (if (if aS A 42 = 1 ∨ aS A 40 = -1 then -1 else aS A 40) = -1 then 1 else 0)) 17 (if aS A 42 = 1 ∨ aS A 40 = -1 then -1 else aS A 40) := by
    unfold aTakeTrap
    dsimp only
    rw [hAA, so 42 (by decide), so 40 (by decide)]
  have fin : ∀ h4 A4 nx, RQ h4 p ic e0 sp A4 [] [] pl (el ++ [zT h + 1]) → j_X2_trap h3 (zR h3 1 1 4 p) ((gB A 0).1 1 + 1) = some (h4, nx) → ∃ h', j_X1_takeTrap h p (bq.getD 0 0) t e0 ic cm B = some h' ∧ RQ h' p ic e0 sp (wS (wS (wS A4 27 nx) 29 (if nx = -1 then 1 else 0)) 17 nx) [] [] pl (el ++ [zT h + 1]) := by
    intro h4 A4 nx w4 tr
    have w5 := rq_wS (k := 27) (v := nx) w4 (by decide)
    have w6 := rq_wS (k := 29) (v := if nx = -1 then 1 else 0) w5 (by decide)
    have w7 := rq_wS (k := 17) (v := nx) w6 (by decide)
    refine ⟨_, ?_, w7⟩
    by_cases c : nx = -1
    · rw [if_pos c]
      simp only [j_X1_takeTrap, j_X1_takeTrap_j62, gd_true, ult, ubd, ukd, uwr, url, unz, uhI, uhR, uhL, upI, upR, upL, eKI, eKR, eKL, eNI, eNR, eNL, eTI, eTR, eTL, eIR, eIL, eRI, eRL, eLI, eLR, rIw, rRw, rLw, decide_true, decide_false, ne_eq, not_false_eq_true, not_true_eq_false, true_and, and_true, and_false, false_and, and_self, if_true, if_false, reduceIte, Nat.reduceEqDiff, decide_not, Bool.not_true, Bool.not_false, rIn, rRn, rq_k w, kn, kn8, e1h, s26a, n0, ei, kk, f1, rq_k w2, e3, rq_k w3', k2, kq3, e1, tr, rq_k w4, if_pos c, y1]
    · rw [if_neg c]
      simp only [j_X1_takeTrap, j_X1_takeTrap_j62, gd_true, ult, ubd, ukd, uwr, url, unz, uhI, uhR, uhL, upI, upR, upL, eKI, eKR, eKL, eNI, eNR, eNL, eTI, eTR, eTL, eIR, eIL, eRI, eRL, eLI, eLR, rIw, rRw, rLw, decide_true, decide_false, ne_eq, not_false_eq_true, not_true_eq_false, true_and, and_true, and_false, false_and, and_self, if_true, if_false, reduceIte, Nat.reduceEqDiff, decide_not, Bool.not_true, Bool.not_false, rIn, rRn, rq_k w, kn, kn8, e1h, s26a, n0, ei, kk, f1, rq_k w2, e3, rq_k w3', k2, kq3, e1, tr, rq_k w4, if_neg c, y0]
  have z10 : ¬ (1 : Int32) = 0 := by decide
  by_cases d1 : aS A 42 = 1
  · obtain ⟨h', g1, g2⟩ := fin h3 AA (-1) w3' (by
      have : ¬ aS A 42 = 0 := by rw [d1]; decide
      simp only [j_X2_trap, j_X2_trap_j15, gd_true, ult, ubd, ukd, uwr, url, unz, uhI, uhR, uhL, upI, upR, upL, eKI, eKR, eKL, eNI, eNR, eNL, eTI, eTR, eTL, eIR, eIL, eRI, eRL, eLI, eLR, rIw, rRw, rLw, decide_true, decide_false, ne_eq, not_false_eq_true, not_true_eq_false, true_and, and_true, and_false, false_and, and_self, if_true, if_false, reduceIte, Nat.reduceEqDiff, decide_not, Bool.not_true, Bool.not_false, k2, v42, if_neg this])
    refine ⟨h', el ++ [zT h + 1], g1, ?_, by simp [h0], by simp⟩
    rw [mo, if_pos (Or.inl d1), if_pos (Or.inl d1)]
    exact g2
  · have d0 : aS A 42 = 0 := s42.resolve_right d1
    by_cases d2 : aS A 40 = -1
    · obtain ⟨h', g1, g2⟩ := fin h3 AA (-1) w3' (by
        simp only [j_X2_trap, j_X2_trap_j15, gd_true, ult, ubd, ukd, uwr, url, unz, uhI, uhR, uhL, upI, upR, upL, eKI, eKR, eKL, eNI, eNR, eNL, eTI, eTR, eTL, eIR, eIL, eRI, eRL, eLI, eLR, rIw, rRw, rLw, decide_true, decide_false, ne_eq, not_false_eq_true, not_true_eq_false, true_and, and_true, and_false, false_and, and_self, if_true, if_false, reduceIte, Nat.reduceEqDiff, decide_not, Bool.not_true, Bool.not_false, k2, v42, if_pos d0, v40, if_pos d2])
      refine ⟨h', el ++ [zT h + 1], g1, ?_, by simp [h0], by simp⟩
      rw [mo, if_pos (Or.inr d2), if_pos (Or.inr d2)]
      exact g2
    · have w4 := rq_w3 (v := 1) w3' (j := 2) (by decide)
      have w5 : RQ (sI (sI h3 2 1 2 (zR h3 1 1 4 p) 1) 2 1 3 (zR h3 1 1 4 p) ((gB A 0).1 1 + 1)) p ic e0 sp (wS (wS AA (40 + 2) 1) (40 + 3) ((gB A 0).1 1 + 1)) [] [] pl _ := rq_w3 (v := (gB A 0).1 1 + 1) w4 (j := 3) (by decide)
      obtain ⟨h', g1, g2⟩ := fin _ _ (aS A 40) w5 (by
        simp only [j_X2_trap, j_X2_trap_j15, gd_true, ult, ubd, ukd, uwr, url, unz, uhI, uhR, uhL, upI, upR, upL, eKI, eKR, eKL, eNI, eNR, eNL, eTI, eTR, eTL, eIR, eIL, eRI, eRL, eLI, eLR, rIw, rRw, rLw, decide_true, decide_false, ne_eq, not_false_eq_true, not_true_eq_false, true_and, and_true, and_false, false_and, and_self, if_true, if_false, reduceIte, Nat.reduceEqDiff, decide_not, Bool.not_true, Bool.not_false, k2, v42, if_pos d0, v40, if_neg d2])
      refine ⟨h', el ++ [zT h + 1], g1, ?_, by simp [h0], by simp⟩
      have dd : ¬ (aS A 42 = 1 ∨ aS A 40 = -1) := fun z => z.elim d1 d2
      rw [mo, if_neg dd, if_neg dd]
      exact g2
end KRET3

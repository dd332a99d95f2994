/-! FETCHING: a new flight -/
set_option maxRecDepth 100000
section KFET3
variable {ic e0 sp p : Nat} {h h' : zH} {A : AS} {bq lq pl el : List Nat}
theorem fr_rne {q q' x k : Nat} {f : FL} (w : FR h pl q f) (hq : q ≠ q') (hk : k = 4 ∨ k = 5) : FR (sR h 8 1 k q' x) pl q f := by
  obtain ⟨w1, ⟨i, i1, i2, i3⟩, w3, w4, w5, w6, w7, w8⟩ := w
  have e : ∀ j, zR (sR h 8 1 k q' x) 8 1 j q = zR h 8 1 j q := fun j => by rw [rRw, if_neg (fun z => hq z.2.2.2)]
  refine ⟨w1, ⟨i, i1, i2, by rw [e]; exact i3⟩, w3, w4, by rw [e]; exact w5, by rw [e]; exact w6, w7, ?_⟩
  rw [e]
  exact w8
theorem rk_wR5 {q x k : Nat} (w : RK h p ic e0 sp A bq lq pl el) (hb : q ∉ bq) (hl : q ∉ lq) (hk : k = 4 ∨ k = 5) : RK (sR h 8 1 k q x) p ic e0 sp A bq lq pl el := by
  have fb' := fq_ne (h' := sR h 8 1 k q x) (rk_fb w) hb (fun y g hy f => fr_rne f hy hk)
  have fl' := fq_ne (h' := sR h 8 1 k q x) (rk_fl w) hl (fun y g hy f => fr_rne f hy hk)
  obtain ⟨w0, wk, g1, g2, g3, g4, g5, g6, g7, g8, g9, g10, g11, fb, fl, nd, lb, ll, gd, gs⟩ := w
  have c : Cg [] [(8, 1)] [] h (sR h 8 1 k q x) := Cg.wR
  exact ⟨c.2.1 w0, c.k wk (by decide), g1.keep c (by decide), g2.keep c (by decide), g3.keep c (by decide), g4.keep c (by decide), g5.keep c (by decide), g6.keep c (by decide), g7.keep c (by decide), g8.keep c (by decide), g9.keep c (by decide), g10.keep c (by decide), g11.keep c (by decide), fb', fl', nd, lb, ll, gd.keep c (by decide), gs.keep c (by decide)⟩
theorem k_newFl {h0 : zH} (hw : zWf h0) {a1 a5 : Nat} {a2 a3 num g : Int32} {a4 : Int64} {b t : List Int32} : ∃ h2, j_X8_init (nw h0 8 1 0) (zT h0 + 1) a1 a2 a3 a4 a5 = some h2 ∧ Ex h0 h2 ∧ zK h2 (zT h0 + 1) = (8, 1) ∧ (∀ k, k ∈ fkl → k ≠ 6 → zI h2 8 1 k (zT h0 + 1) = (fNew a2 a3 num g b t).1 k) ∧ zR h2 8 1 0 (zT h0 + 1) = a1 ∧ zL h2 8 1 3 (zT h0 + 1) = a4 ∧ zR h2 8 1 4 (zT h0 + 1) = a5 ∧ zR h2 8 1 21 (zT h0 + 1) = 0 ∧ zI h2 8 1 22 (zT h0 + 1) = 0 := by
  have n0 : nzr (zT h0 + 1) = true := decide_eq_true (by omega)
  have k1 : zK (nw h0 8 1 0) (zT h0 + 1) = (8, 1) := nw_Ks
  have z0 := new0 hw
  refine ⟨sI (sR (sI (sL (sI (sR (sI (sI (sI (sI (sI (sI (sI (nw h0 8 1 0) 8 1 7 (zT h0 + 1) (-1)) 8 1 8 (zT h0 + 1) (-1)) 8 1 9 (zT h0 + 1) (-1)) 8 1 12 (zT h0 + 1) (-1)) 8 1 13 (zT h0 + 1) (-1)) 8 1 14 (zT h0 + 1) 102) 8 1 20 (zT h0 + 1) (-1)) 8 1 0 (zT h0 + 1) a1) 8 1 1 (zT h0 + 1) a2) 8 1 3 (zT h0 + 1) a4) 8 1 2 (zT h0 + 1) a3) 8 1 4 (zT h0 + 1) a5) 8 1 19 (zT h0 + 1) (a2 + 1), ?_, ?_, k1, fun k hk h6 => ?_, ?_, ?_, ?_, ?_, ?_⟩
  · simp only [j_X8_init, gd_true, ult, ubd, ukd, uwr, url, unz, uhI, uhR, uhL, upI, upR, upL, eKI, eKR, eKL, eNI, eNR, eNL, eTI, eTR, eTL, eIR, eIL, eRI, eRL, eLI, eLR, rIw, rRw, rLw, decide_true, decide_false, ne_eq, not_false_eq_true, not_true_eq_false, true_and, and_true, and_false, false_and, and_self, if_true, if_false, reduceIte, Nat.reduceEqDiff, decide_not, Bool.not_true, Bool.not_false, n0, k1]
  · exact (Ex.rf hw).new.sI z0 |>.sI z0 |>.sI z0 |>.sI z0 |>.sI z0 |>.sI z0 |>.sI z0 |>.sR z0 |>.sI z0 |>.sL z0 |>.sI z0 |>.sR z0 |>.sI z0
  · have : k = 1 ∨ k = 2 ∨ k = 7 ∨ k = 8 ∨ k = 9 ∨ k = 10 ∨ k = 11 ∨ k = 12 ∨ k = 13 ∨ k = 14 ∨ k = 15 ∨ k = 16 ∨ k = 17 ∨ k = 18 ∨ k = 19 ∨ k = 20 := by
      simp only [fkl, List.mem_cons, List.not_mem_nil, or_false] at hk
      omega
    rcases this with e | e | e | e | e | e | e | e | e | e | e | e | e | e | e | e <;> (subst e; simp [fNew, rIw, rIn, eIR, eIL])
  · simp [rRw, rRn, eRI, eRL]
  · simp [rLw, eLI, eLR]
  · simp [rRw, rRn, eRI, eRL]
  · simp [rRw, rRn, eRI, eRL]
  · simp [rIw, rIn, eIR, eIL]
end KFET3

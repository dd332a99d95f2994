/-! WHAT WRITES LEAVE OF IT: printed by mk62.py -/
set_option maxRecDepth 100000
section RKW
variable {h h' : zH} {p ic e0 sp : Nat} {A : AS} {bq lq pl el : List Nat}
theorem rk_w0 (w : RK h p ic e0 sp A bq lq pl el) : zWf h := w.1
theorem rk_wk (w : RK h p ic e0 sp A bq lq pl el) : zK h p = (1, 1) := w.2.1
theorem rk_g1 (w : RK h p ic e0 sp A bq lq pl el) : G1 h p (aS A) := w.2.2.1
theorem rk_g2 (w : RK h p ic e0 sp A bq lq pl el) : G2 h p (aA A) := w.2.2.2.1
theorem rk_g3 (w : RK h p ic e0 sp A bq lq pl el) : G3 h p (aS A) := w.2.2.2.2.1
theorem rk_g4 (w : RK h p ic e0 sp A bq lq pl el) : G4 h p (aA A) := w.2.2.2.2.2.1
theorem rk_g5 (w : RK h p ic e0 sp A bq lq pl el) : G5 h p ic (aFree A) := w.2.2.2.2.2.2.1
theorem rk_g6 (w : RK h p ic e0 sp A bq lq pl el) : G6 h p lq := w.2.2.2.2.2.2.2.1
theorem rk_g7 (w : RK h p ic e0 sp A bq lq pl el) : G7 h p bq := w.2.2.2.2.2.2.2.2.1
theorem rk_g8 (w : RK h p ic e0 sp A bq lq pl el) : G8 h p (aAsk A) := w.2.2.2.2.2.2.2.2.2.1
theorem rk_g9 (w : RK h p ic e0 sp A bq lq pl el) : G9 h p e0 el (aEnd A) := w.2.2.2.2.2.2.2.2.2.2.1
theorem rk_g10 (w : RK h p ic e0 sp A bq lq pl el) : G10 h p e0 pl (aS A) (aA A) := w.2.2.2.2.2.2.2.2.2.2.2.1
theorem rk_g11 (w : RK h p ic e0 sp A bq lq pl el) : G11 h p (aRet A) := w.2.2.2.2.2.2.2.2.2.2.2.2.1
theorem rk_fb (w : RK h p ic e0 sp A bq lq pl el) : FQ h pl bq (aBuf A) := w.2.2.2.2.2.2.2.2.2.2.2.2.2.1
theorem rk_fl (w : RK h p ic e0 sp A bq lq pl el) : FQ h pl lq (aLine A) := w.2.2.2.2.2.2.2.2.2.2.2.2.2.2.1
theorem rk_nd (w : RK h p ic e0 sp A bq lq pl el) : (bq ++ lq).Nodup := w.2.2.2.2.2.2.2.2.2.2.2.2.2.2.2.1
theorem rk_lb (w : RK h p ic e0 sp A bq lq pl el) : bq.length ≤ 16 := w.2.2.2.2.2.2.2.2.2.2.2.2.2.2.2.2.1
theorem rk_ll (w : RK h p ic e0 sp A bq lq pl el) : lq.length ≤ 8 := w.2.2.2.2.2.2.2.2.2.2.2.2.2.2.2.2.2.1
theorem rk_gd (w : RK h p ic e0 sp A bq lq pl el) : GD h el bq lq := w.2.2.2.2.2.2.2.2.2.2.2.2.2.2.2.2.2.2.1
theorem rk_gs (w : RK h p ic e0 sp A bq lq pl el) : GS h sp := w.2.2.2.2.2.2.2.2.2.2.2.2.2.2.2.2.2.2.2
theorem rk_its (w : RK h p ic e0 sp A bq lq pl el) (c : Ch [(15, 58), (15, 59), (10, 59), (205, 59), (16, 54), (16, 55), (16, 57), (17, 54), (18, 52), (6, 1)] h h') : RK h' p ic e0 sp A bq lq pl el := by
  obtain ⟨w0, wk, g1, g2, g3, g4, g5, g6, g7, g8, g9, g10, g11, fb, fl, nd, lb, ll, gd, gs⟩ := w
  have c := c.cg
  exact ⟨c.2.1 w0, c.k wk (by decide), g1.keep c (by decide), g2.keep c (by decide), g3.keep c (by decide), g4.keep c (by decide), g5.keep c (by decide), g6.keep c (by decide), g7.keep c (by decide), g8.keep c (by decide), g9.keep c (by decide), g10.keep c (by decide), g11.keep c (by decide), fb.keep c (by decide), fl.keep c (by decide), nd, lb, ll, gd.keep c (by decide), gs.keep c (by decide)⟩
theorem rk_que (w : RK h p ic e0 sp A bq lq pl el) (c : Ch [(13, 55), (14, 55), (16, 55)] h h') : RK h' p ic e0 sp A bq lq pl el := by
  obtain ⟨w0, wk, g1, g2, g3, g4, g5, g6, g7, g8, g9, g10, g11, fb, fl, nd, lb, ll, gd, gs⟩ := w
  have c := c.cg
  exact ⟨c.2.1 w0, c.k wk (by decide), g1.keep c (by decide), g2.keep c (by decide), g3.keep c (by decide), g4.keep c (by decide), g5.keep c (by decide), g6.keep c (by decide), g7.keep c (by decide), g8.keep c (by decide), g9.keep c (by decide), g10.keep c (by decide), g11.keep c (by decide), fb.keep c (by decide), fl.keep c (by decide), nd, lb, ll, gd.keep c (by decide), gs.keep c (by decide)⟩
theorem g1_w {s : Nat → Int32} {k : Nat} {v : Int32} (w : G1 h p s) (hk : k ∈ skl) : G1 (sI h 1 1 k p v) p (pu s k v) := by
  have h18 : ¬ 18 = k := by rintro rfl; revert hk; decide
  have h36 : ¬ 36 = k := by rintro rfl; revert hk; decide
  have h37 : ¬ 37 = k := by rintro rfl; revert hk; decide
  refine ⟨fun k' hk' => ?_, ?_, ?_⟩
  · rw [rIw]
    unfold pu
    by_cases e : k' = k
    · rw [if_pos ⟨rfl, rfl, e, rfl⟩, if_pos e]
    · rw [if_neg (fun z => e z.2.2.1), if_neg e]; exact w.1 k' hk'
  · rw [eLI, pu_ne h18]; exact w.2.1
  · rw [eLI, pu_ne h36, pu_ne h37]; exact w.2.2
theorem skl_no {k : Nat} (hk : k ∈ skl) : k ≠ 0 ∧ k < 40 := by
  simp only [skl, List.mem_cons, List.not_mem_nil, or_false] at hk
  omega
theorem g3_s {s : Nat → Int32} {k : Nat} {v : Int32} (w : G3 h p s) (hk : k < 40) : G3 h p (pu s k v) := ⟨w.1, fun j hj => by rw [pu_ne (by omega)]; exact w.2 j hj⟩
theorem g10_s {s : Nat → Int32} {a : Nat → Nat → Int32} {k : Nat} {v : Int32} (w : G10 h p e0 pl s a) (hk : k ≠ 0) : G10 h p e0 pl (pu s k v) a := ⟨w.1, w.2.1, by rw [pu_ne (Ne.symm hk)]; exact w.2.2.1, w.2.2.2⟩
theorem rk_wS (w : RK h p ic e0 sp A bq lq pl el) {k : Nat} {v : Int32} (hk : k ∈ skl) : RK (sI h 1 1 k p v) p ic e0 sp (wS A k v) bq lq pl el := by
  obtain ⟨w0, wk, g1, g2, g3, g4, g5, g6, g7, g8, g9, g10, g11, fb, fl, nd, lb, ll, gd, gs⟩ := w
  have c : Cg [(1, 1)] [] [] h (sI h 1 1 k p v) := Cg.wI
  have hs := skl_no hk
  exact ⟨c.2.1 w0, c.k wk (by decide), g1_w g1 hk, g2.keep c (by decide), g3_s (g3.keep c (by decide)) hs.2, g4.keep c (by decide), g5.keep c (by decide), g6.keep c (by decide), g7.keep c (by decide), g8.keep c (by decide), g9.keep c (by decide), g10_s (g10.keep c (by decide)) hs.1, g11.keep c (by decide), fb.keep c (by decide), fl.keep c (by decide), nd, lb, ll, gd.keep c (by decide), gs.keep c (by decide)⟩
theorem g1_18 {s : Nat → Int32} {v : Int64} {n : Int32} (w : G1 h p s) (hv : v = n.toInt64) : G1 (sL h 1 1 18 p v) p (pu s 18 n) := ⟨fun k hk => by rw [eIL, pu_ne (fun e => by subst e; revert hk; decide)]; exact w.1 k hk, by rw [rLw, if_pos ⟨rfl, rfl, rfl, rfl⟩, pu_at]; exact hv, by rw [rLw, if_neg (by simp), pu_ne (by decide), pu_ne (by decide)]; exact w.2.2⟩
theorem rk_w18 (w : RK h p ic e0 sp A bq lq pl el) {v : Int64} {n : Int32} (hv : v = n.toInt64) : RK (sL h 1 1 18 p v) p ic e0 sp (wS A 18 n) bq lq pl el := by
  obtain ⟨w0, wk, g1, g2, g3, g4, g5, g6, g7, g8, g9, g10, g11, fb, fl, nd, lb, ll, gd, gs⟩ := w
  have c : Cg [] [] [(1, 1)] h (sL h 1 1 18 p v) := Cg.wL
  exact ⟨c.2.1 w0, c.k wk (by decide), g1_18 g1 hv, g2.keep c (by decide), g3_s (g3.keep c (by decide)) (by decide), g4.keep c (by decide), g5.keep c (by decide), g6.keep c (by decide), g7.keep c (by decide), g8.keep c (by decide), g9.keep c (by decide), g10_s (g10.keep c (by decide)) (by decide), g11.keep c (by decide), fb.keep c (by decide), fl.keep c (by decide), nd, lb, ll, gd.keep c (by decide), gs.keep c (by decide)⟩
theorem g1_36 {s s' : Nat → Int32} {v : Int64} (w : G1 h p s) (hs : ∀ k, k ≠ 36 → k ≠ 37 → s' k = s k) (hv : v = (s' 36).toInt64 + 1000 * (s' 37).toInt64) : G1 (sL h 1 1 36 p v) p s' := ⟨fun k hk => by rw [eIL, hs k (fun e => by subst e; revert hk; decide) (fun e => by subst e; revert hk; decide)]; exact w.1 k hk, by rw [rLw, if_neg (by simp), hs 18 (by decide) (by decide)]; exact w.2.1, by rw [rLw, if_pos ⟨rfl, rfl, rfl, rfl⟩]; exact hv⟩
theorem rk_w36 (w : RK h p ic e0 sp A bq lq pl el) {v : Int64} {n : Int32} (hv : v = (aS (wS A 36 n) 36).toInt64 + 1000 * (aS (wS A 36 n) 37).toInt64) : RK (sL h 1 1 36 p v) p ic e0 sp (wS A 36 n) bq lq pl el := by
  obtain ⟨w0, wk, g1, g2, g3, g4, g5, g6, g7, g8, g9, g10, g11, fb, fl, nd, lb, ll, gd, gs⟩ := w
  have c : Cg [] [] [(1, 1)] h (sL h 1 1 36 p v) := Cg.wL
  exact ⟨c.2.1 w0, c.k wk (by decide), g1_36 g1 (fun k h1 h2 => by show pu _ _ _ _ = _; rw [pu_ne (by omega)]) hv, g2.keep c (by decide), g3_s (g3.keep c (by decide)) (by decide), g4.keep c (by decide), g5.keep c (by decide), g6.keep c (by decide), g7.keep c (by decide), g8.keep c (by decide), g9.keep c (by decide), g10_s (g10.keep c (by decide)) (by decide), g11.keep c (by decide), fb.keep c (by decide), fl.keep c (by decide), nd, lb, ll, gd.keep c (by decide), gs.keep c (by decide)⟩
theorem rk_w37 (w : RK h p ic e0 sp A bq lq pl el) {v : Int64} {n : Int32} (hv : v = (aS (wS A 37 n) 36).toInt64 + 1000 * (aS (wS A 37 n) 37).toInt64) : RK (sL h 1 1 36 p v) p ic e0 sp (wS A 37 n) bq lq pl el := by
  obtain ⟨w0, wk, g1, g2, g3, g4, g5, g6, g7, g8, g9, g10, g11, fb, fl, nd, lb, ll, gd, gs⟩ := w
  have c : Cg [] [] [(1, 1)] h (sL h 1 1 36 p v) := Cg.wL
  exact ⟨c.2.1 w0, c.k wk (by decide), g1_36 g1 (fun k h1 h2 => by show pu _ _ _ _ = _; rw [pu_ne (by omega)]) hv, g2.keep c (by decide), g3_s (g3.keep c (by decide)) (by decide), g4.keep c (by decide), g5.keep c (by decide), g6.keep c (by decide), g7.keep c (by decide), g8.keep c (by decide), g9.keep c (by decide), g10_s (g10.keep c (by decide)) (by decide), g11.keep c (by decide), fb.keep c (by decide), fl.keep c (by decide), nd, lb, ll, gd.keep c (by decide), gs.keep c (by decide)⟩
theorem rk_w3 (w : RK h p ic e0 sp A bq lq pl el) {j : Nat} {v : Int32} (hj : j < 4) : RK (sI h 2 1 j (zR h 1 1 4 p) v) p ic e0 sp (wS A (40 + j) v) bq lq pl el := by
  obtain ⟨w0, wk, g1, g2, g3, g4, g5, g6, g7, g8, g9, g10, g11, fb, fl, nd, lb, ll, gd, gs⟩ := w
  have c : Cg [(2, 1)] [] [] h (sI h 2 1 j (zR h 1 1 4 p) v) := Cg.wI
  have g3' : G3 (sI h 2 1 j (zR h 1 1 4 p) v) p (pu (aS A) (40 + j) v) := ⟨g3.1, fun i hi => by
    rw [rIw, eRI]
    unfold pu
    by_cases e : i = j
    · rw [if_pos ⟨rfl, rfl, e, rfl⟩, if_pos (by omega)]
    · rw [if_neg (fun z => e z.2.2.1), if_neg (by omega)]; exact g3.2 i hi⟩
  have g1' : G1 (sI h 2 1 j (zR h 1 1 4 p) v) p (pu (aS A) (40 + j) v) := by
    have g1 := g1.keep c (by decide)
    refine ⟨fun k hk => by rw [pu_ne (by have := skl_no hk; omega)]; exact g1.1 k hk, by rw [pu_ne (by omega)]; exact g1.2.1, by rw [pu_ne (by omega), pu_ne (by omega)]; exact g1.2.2⟩
  exact ⟨c.2.1 w0, c.k wk (by decide), g1', g2.keep c (by decide), g3', g4.keep c (by decide), g5.keep c (by decide), g6.keep c (by decide), g7.keep c (by decide), g8.keep c (by decide), g9.keep c (by decide), g10_s (g10.keep c (by decide)) (by omega), g11.keep c (by decide), fb.keep c (by decide), fl.keep c (by decide), nd, lb, ll, gd.keep c (by decide), gs.keep c (by decide)⟩
theorem u2_k {g : Nat → Nat → Int32} {k j k' : Nat} {v : Int32} (e : k' ≠ k) : u2 g k j v k' = g k' := by funext j'; unfold u2; rw [if_neg (fun z => e z.1)]
theorem G4.a {a a' : Nat → Nat → Int32} (w : G4 h p a) (e1 : a' 10 = a 10) (e2 : a' 22 = a 22) : G4 h p a' := by unfold G4; rw [e1, e2]; exact w
theorem G10.a {s : Nat → Int32} {a a' : Nat → Nat → Int32} (w : G10 h p e0 pl s a) (e : ∀ j, a' (50 + j) = a (50 + j)) : G10 h p e0 pl s a' := ⟨w.1, w.2.1, w.2.2.1, fun i hi => ⟨(w.2.2.2 i hi).1, fun j hj => by rw [e]; exact (w.2.2.2 i hi).2 j hj⟩⟩
theorem G2.w {a : Nat → Nat → Int32} {k j : Nat} {v : Int32} (w : G2 h p a) (hk : aln k ≠ 0) : G2 (sI h 201 (10 + k) j (zR h 1 1 k p) v) p (u2 a k j v) := by
  intro k' hk'
  obtain ⟨w1, w2, w3⟩ := w k' hk'
  refine ⟨w1, w2, fun j' hj' => ?_⟩
  rw [rIw, eRI]
  unfold u2
  by_cases e : k' = k
  · subst e
    by_cases e2 : j' = j
    · rw [if_pos ⟨rfl, rfl, e2, rfl⟩, if_pos ⟨rfl, e2⟩]
    · rw [if_neg (fun z => e2 z.2.2.1), if_neg (fun z => e2 z.2)]; exact w3 j' hj'
  · rw [if_neg (fun z => e (by have := z.2.1; omega)), if_neg (fun z => e z.1)]; exact w3 j' hj'
theorem rk_wA (w : RK h p ic e0 sp A bq lq pl el) {k j : Nat} {v : Int32} (hk : aln k ≠ 0) : RK (sI h 201 (10 + k) j (zR h 1 1 k p) v) p ic e0 sp (wA A k j v) bq lq pl el := by
  obtain ⟨w0, wk, g1, g2, g3, g4, g5, g6, g7, g8, g9, g10, g11, fb, fl, nd, lb, ll, gd, gs⟩ := w
  have c : Cg [(201, 10 + k)] [] [] h (sI h 201 (10 + k) j (zR h 1 1 k p) v) := Cg.wI
  have g2' : G2 (sI h 201 (10 + k) j (zR h 1 1 k p) v) p (aA (wA A k j v)) := g2.w hk
  have hm := aln_in hk
  simp only [List.mem_cons, List.not_mem_nil, or_false] at hm
  have g4' : G4 h p (aA (wA A k j v)) := g4.a (u2_k (by omega)) (u2_k (by omega))
  have g10' : G10 h p e0 pl (aS A) (aA (wA A k j v)) := g10.a (fun j => u2_k (by omega))
  rcases hm with rfl | rfl | rfl | rfl | rfl | rfl | rfl | rfl | rfl | rfl | rfl
  · exact ⟨c.2.1 w0, c.k wk (by decide), g1.keep c (by decide), g2', g3.keep c (by decide), g4'.keep c (by decide), g5.keep c (by decide), g6.keep c (by decide), g7.keep c (by decide), g8.keep c (by decide), g9.keep c (by decide), g10'.keep c (by decide), g11.keep c (by decide), fb.keep c (by decide), fl.keep c (by decide), nd, lb, ll, gd.keep c (by decide), gs.keep c (by decide)⟩
  · exact ⟨c.2.1 w0, c.k wk (by decide), g1.keep c (by decide), g2', g3.keep c (by decide), g4'.keep c (by decide), g5.keep c (by decide), g6.keep c (by decide), g7.keep c (by decide), g8.keep c (by decide), g9.keep c (by decide), g10'.keep c (by decide), g11.keep c (by decide), fb.keep c (by decide), fl.keep c (by decide), nd, lb, ll, gd.keep c (by decide), gs.keep c (by decide)⟩
  · exact ⟨c.2.1 w0, c.k wk (by decide), g1.keep c (by decide), g2', g3.keep c (by decide), g4'.keep c (by decide), g5.keep c (by decide), g6.keep c (by decide), g7.keep c (by decide), g8.keep c (by decide), g9.keep c (by decide), g10'.keep c (by decide), g11.keep c (by decide), fb.keep c (by decide), fl.keep c (by decide), nd, lb, ll, gd.keep c (by decide), gs.keep c (by decide)⟩
  · exact ⟨c.2.1 w0, c.k wk (by decide), g1.keep c (by decide), g2', g3.keep c (by decide), g4'.keep c (by decide), g5.keep c (by decide), g6.keep c (by decide), g7.keep c (by decide), g8.keep c (by decide), g9.keep c (by decide), g10'.keep c (by decide), g11.keep c (by decide), fb.keep c (by decide), fl.keep c (by decide), nd, lb, ll, gd.keep c (by decide), gs.keep c (by decide)⟩
  · exact ⟨c.2.1 w0, c.k wk (by decide), g1.keep c (by decide), g2', g3.keep c (by decide), g4'.keep c (by decide), g5.keep c (by decide), g6.keep c (by decide), g7.keep c (by decide), g8.keep c (by decide), g9.keep c (by decide), g10'.keep c (by decide), g11.keep c (by decide), fb.keep c (by decide), fl.keep c (by decide), nd, lb, ll, gd.keep c (by decide), gs.keep c (by decide)⟩
  · exact ⟨c.2.1 w0, c.k wk (by decide), g1.keep c (by decide), g2', g3.keep c (by decide), g4'.keep c (by decide), g5.keep c (by decide), g6.keep c (by decide), g7.keep c (by decide), g8.keep c (by decide), g9.keep c (by decide), g10'.keep c (by decide), g11.keep c (by decide), fb.keep c (by decide), fl.keep c (by decide), nd, lb, ll, gd.keep c (by decide), gs.keep c (by decide)⟩
  · exact ⟨c.2.1 w0, c.k wk (by decide), g1.keep c (by decide), g2', g3.keep c (by decide), g4'.keep c (by decide), g5.keep c (by decide), g6.keep c (by decide), g7.keep c (by decide), g8.keep c (by decide), g9.keep c (by decide), g10'.keep c (by decide), g11.keep c (by decide), fb.keep c (by decide), fl.keep c (by decide), nd, lb, ll, gd.keep c (by decide), gs.keep c (by decide)⟩
  · exact ⟨c.2.1 w0, c.k wk (by decide), g1.keep c (by decide), g2', g3.keep c (by decide), g4'.keep c (by decide), g5.keep c (by decide), g6.keep c (by decide), g7.keep c (by decide), g8.keep c (by decide), g9.keep c (by decide), g10'.keep c (by decide), g11.keep c (by decide), fb.keep c (by decide), fl.keep c (by decide), nd, lb, ll, gd.keep c (by decide), gs.keep c (by decide)⟩
  · exact ⟨c.2.1 w0, c.k wk (by decide), g1.keep c (by decide), g2', g3.keep c (by decide), g4'.keep c (by decide), g5.keep c (by decide), g6.keep c (by decide), g7.keep c (by decide), g8.keep c (by decide), g9.keep c (by decide), g10'.keep c (by decide), g11.keep c (by decide), fb.keep c (by decide), fl.keep c (by decide), nd, lb, ll, gd.keep c (by decide), gs.keep c (by decide)⟩
  · exact ⟨c.2.1 w0, c.k wk (by decide), g1.keep c (by decide), g2', g3.keep c (by decide), g4'.keep c (by decide), g5.keep c (by decide), g6.keep c (by decide), g7.keep c (by decide), g8.keep c (by decide), g9.keep c (by decide), g10'.keep c (by decide), g11.keep c (by decide), fb.keep c (by decide), fl.keep c (by decide), nd, lb, ll, gd.keep c (by decide), gs.keep c (by decide)⟩
  · exact ⟨c.2.1 w0, c.k wk (by decide), g1.keep c (by decide), g2', g3.keep c (by decide), g4'.keep c (by decide), g5.keep c (by decide), g6.keep c (by decide), g7.keep c (by decide), g8.keep c (by decide), g9.keep c (by decide), g10'.keep c (by decide), g11.keep c (by decide), fb.keep c (by decide), fl.keep c (by decide), nd, lb, ll, gd.keep c (by decide), gs.keep c (by decide)⟩
theorem rk_set10 (w : RK h p ic e0 sp A bq lq pl el) {j : Nat} (c : Ch [(11, 51), (203, 51)] h h') (hb : BS h' 51 (zR h 1 1 10 p) (fun k => if k = j then true else decide (aA A 10 k = 1))) : RK h' p ic e0 sp (wA A 10 j 1) bq lq pl el := by
  obtain ⟨w0, wk, g1, g2, g3, g4, g5, g6, g7, g8, g9, g10, g11, fb, fl, nd, lb, ll, gd, gs⟩ := w
  have c := c.cg
  have hb' : BS h' 51 (zR h' 1 1 10 p) (fun k => decide (aA (wA A 10 j 1) 10 k = 1)) := by
    rw [c.r (by decide)]
    have e : (fun k => decide (aA (wA A 10 j 1) 10 k = 1)) = fun k => if k = j then true else decide (aA A 10 k = 1) := by
      funext i
      show decide (u2 (aA A) 10 j 1 10 i = 1) = _
      unfold u2
      by_cases e : i = j
      · rw [if_pos ⟨rfl, e⟩, if_pos e]; decide
      · rw [if_neg (fun z => e z.2), if_neg e]
    rw [e]; exact hb
  have ho : BS h' 56 (zR h' 1 1 22 p) (fun k => decide (aA (wA A 10 j 1) 22 k = 1)) := by
    rw [c.r (by decide)]
    have e : aA (wA A 10 j 1) 22 = aA A 22 := u2_k (g := aA A) (k := 10) (j := j) (v := 1) (k' := 22) (by decide)
    rw [e]
    exact (g4.2).keepg c (by decide) (by decide) (by decide)
  exact ⟨c.2.1 w0, c.k wk (by decide), g1.keep c (by decide), (fun k hk => by
    have e : aA (wA A 10 j 1) k = aA A k := u2_k (fun e => hk (by rw [e]; decide))
    rw [e]
    exact (g2.keep c (by decide)) k hk), g3.keep c (by decide), ⟨hb', ho⟩, g5.keep c (by decide), g6.keep c (by decide), g7.keep c (by decide), g8.keep c (by decide), g9.keep c (by decide), (g10.keep c (by decide)).a (fun j => u2_k (by omega)), g11.keep c (by decide), fb.keep c (by decide), fl.keep c (by decide), nd, lb, ll, gd.keep c (by decide), gs.keep c (by decide)⟩
theorem rk_clr10 (w : RK h p ic e0 sp A bq lq pl el) {j : Nat} (c : Ch [(11, 51), (203, 51)] h h') (hb : BS h' 51 (zR h 1 1 10 p) (fun k => if k = j then false else decide (aA A 10 k = 1))) : RK h' p ic e0 sp (wA A 10 j 0) bq lq pl el := by
  obtain ⟨w0, wk, g1, g2, g3, g4, g5, g6, g7, g8, g9, g10, g11, fb, fl, nd, lb, ll, gd, gs⟩ := w
  have c := c.cg
  have hb' : BS h' 51 (zR h' 1 1 10 p) (fun k => decide (aA (wA A 10 j 0) 10 k = 1)) := by
    rw [c.r (by decide)]
    have e : (fun k => decide (aA (wA A 10 j 0) 10 k = 1)) = fun k => if k = j then false else decide (aA A 10 k = 1) := by
      funext i
      show decide (u2 (aA A) 10 j 0 10 i = 1) = _
      unfold u2
      by_cases e : i = j
      · rw [if_pos ⟨rfl, e⟩, if_pos e]; decide
      · rw [if_neg (fun z => e z.2), if_neg e]
    rw [e]; exact hb
  have ho : BS h' 56 (zR h' 1 1 22 p) (fun k => decide (aA (wA A 10 j 0) 22 k = 1)) := by
    rw [c.r (by decide)]
    have e : aA (wA A 10 j 0) 22 = aA A 22 := u2_k (g := aA A) (k := 10) (j := j) (v := 0) (k' := 22) (by decide)
    rw [e]
    exact (g4.2).keepg c (by decide) (by decide) (by decide)
  exact ⟨c.2.1 w0, c.k wk (by decide), g1.keep c (by decide), (fun k hk => by
    have e : aA (wA A 10 j 0) k = aA A k := u2_k (fun e => hk (by rw [e]; decide))
    rw [e]
    exact (g2.keep c (by decide)) k hk), g3.keep c (by decide), ⟨hb', ho⟩, g5.keep c (by decide), g6.keep c (by decide), g7.keep c (by decide), g8.keep c (by decide), g9.keep c (by decide), (g10.keep c (by decide)).a (fun j => u2_k (by omega)), g11.keep c (by decide), fb.keep c (by decide), fl.keep c (by decide), nd, lb, ll, gd.keep c (by decide), gs.keep c (by decide)⟩
theorem rk_set22 (w : RK h p ic e0 sp A bq lq pl el) {j : Nat} (c : Ch [(11, 56), (203, 56)] h h') (hb : BS h' 56 (zR h 1 1 22 p) (fun k => if k = j then true else decide (aA A 22 k = 1))) : RK h' p ic e0 sp (wA A 22 j 1) bq lq pl el := by
  obtain ⟨w0, wk, g1, g2, g3, g4, g5, g6, g7, g8, g9, g10, g11, fb, fl, nd, lb, ll, gd, gs⟩ := w
  have c := c.cg
  have hb' : BS h' 56 (zR h' 1 1 22 p) (fun k => decide (aA (wA A 22 j 1) 22 k = 1)) := by
    rw [c.r (by decide)]
    have e : (fun k => decide (aA (wA A 22 j 1) 22 k = 1)) = fun k => if k = j then true else decide (aA A 22 k = 1) := by
      funext i
      show decide (u2 (aA A) 22 j 1 22 i = 1) = _
      unfold u2
      by_cases e : i = j
      · rw [if_pos ⟨rfl, e⟩, if_pos e]; decide
      · rw [if_neg (fun z => e z.2), if_neg e]
    rw [e]; exact hb
  have ho : BS h' 51 (zR h' 1 1 10 p) (fun k => decide (aA (wA A 22 j 1) 10 k = 1)) := by
    rw [c.r (by decide)]
    have e : aA (wA A 22 j 1) 10 = aA A 10 := u2_k (g := aA A) (k := 22) (j := j) (v := 1) (k' := 10) (by decide)
    rw [e]
    exact (g4.1).keepg c (by decide) (by decide) (by decide)
  exact ⟨c.2.1 w0, c.k wk (by decide), g1.keep c (by decide), (fun k hk => by
    have e : aA (wA A 22 j 1) k = aA A k := u2_k (fun e => hk (by rw [e]; decide))
    rw [e]
    exact (g2.keep c (by decide)) k hk), g3.keep c (by decide), ⟨ho, hb'⟩, g5.keep c (by decide), g6.keep c (by decide), g7.keep c (by decide), g8.keep c (by decide), g9.keep c (by decide), (g10.keep c (by decide)).a (fun j => u2_k (by omega)), g11.keep c (by decide), fb.keep c (by decide), fl.keep c (by decide), nd, lb, ll, gd.keep c (by decide), gs.keep c (by decide)⟩
theorem rk_set5 (w : RK h p ic e0 sp A bq lq pl el) {l : List Int32} (c : Ch [(12, 52), (205, 52)] h h') (n : G5 h' p ic l) : RK h' p ic e0 sp (wFree A l) bq lq pl el := by
  obtain ⟨w0, wk, g1, g2, g3, g4, g5, g6, g7, g8, g9, g10, g11, fb, fl, nd, lb, ll, gd, gs⟩ := w
  have c := c.cg
  exact ⟨c.2.1 w0, c.k wk (by decide), g1.keep c (by decide), g2.keep c (by decide), g3.keep c (by decide), g4.keep c (by decide), n, g6.keep c (by decide), g7.keep c (by decide), g8.keep c (by decide), g9.keep c (by decide), g10.keep c (by decide), g11.keep c (by decide), fb.keep c (by decide), fl.keep c (by decide), nd, lb, ll, gd.keep c (by decide), gs.keep c (by decide)⟩
theorem rk_set6 (w : RK h p ic e0 sp A bq lq pl el) {l : List FL} {lq' : List Nat} (c : Ch [(12, 53), (205, 53)] h h') (n : G6 h' p lq') (f : FQ h pl lq' l) (n2 : (bq ++ lq').Nodup) (n3 : lq'.length ≤ 8) (n4 : GD h el bq lq') : RK h' p ic e0 sp (wLine A l) bq lq' pl el := by
  obtain ⟨w0, wk, g1, g2, g3, g4, g5, g6, g7, g8, g9, g10, g11, fb, fl, nd, lb, ll, gd, gs⟩ := w
  have c := c.cg
  exact ⟨c.2.1 w0, c.k wk (by decide), g1.keep c (by decide), g2.keep c (by decide), g3.keep c (by decide), g4.keep c (by decide), g5.keep c (by decide), n, g7.keep c (by decide), g8.keep c (by decide), g9.keep c (by decide), g10.keep c (by decide), g11.keep c (by decide), fb.keep c (by decide), f.keep c (by decide), n2, lb, n3, n4.keep c (by decide), gs.keep c (by decide)⟩
theorem rk_set7 (w : RK h p ic e0 sp A bq lq pl el) {l : List FL} {bq' : List Nat} (c : Ch [(13, 54), (14, 54), (16, 54), (17, 54)] h h') (n : G7 h' p bq') (f : FQ h pl bq' l) (n2 : (bq' ++ lq).Nodup) (n3 : bq'.length ≤ 16) (n4 : GD h el bq' lq) : RK h' p ic e0 sp (wBuf A l) bq' lq pl el := by
  obtain ⟨w0, wk, g1, g2, g3, g4, g5, g6, g7, g8, g9, g10, g11, fb, fl, nd, lb, ll, gd, gs⟩ := w
  have c := c.cg
  exact ⟨c.2.1 w0, c.k wk (by decide), g1.keep c (by decide), g2.keep c (by decide), g3.keep c (by decide), g4.keep c (by decide), g5.keep c (by decide), g6.keep c (by decide), n, g8.keep c (by decide), g9.keep c (by decide), g10.keep c (by decide), g11.keep c (by decide), f.keep c (by decide), fl.keep c (by decide), n2, n3, ll, n4.keep c (by decide), gs.keep c (by decide)⟩
theorem rk_set8 (w : RK h p ic e0 sp A bq lq pl el) {l : List (Int32 × Int32)} (c : Ch [(13, 57), (14, 57), (16, 57), (7, 1)] h h') (n : G8 h' p l) : RK h' p ic e0 sp (wAsk A l) bq lq pl el := by
  obtain ⟨w0, wk, g1, g2, g3, g4, g5, g6, g7, g8, g9, g10, g11, fb, fl, nd, lb, ll, gd, gs⟩ := w
  have c := c.cg
  exact ⟨c.2.1 w0, c.k wk (by decide), g1.keep c (by decide), g2.keep c (by decide), g3.keep c (by decide), g4.keep c (by decide), g5.keep c (by decide), g6.keep c (by decide), g7.keep c (by decide), n, g9.keep c (by decide), g10.keep c (by decide), g11.keep c (by decide), fb.keep c (by decide), fl.keep c (by decide), nd, lb, ll, gd.keep c (by decide), gs.keep c (by decide)⟩
theorem rk_set9 (w : RK h p ic e0 sp A bq lq pl el) {l : List (Nat → Int32)} {el' : List Nat} (c : Ch [(10, 58), (205, 58), (5, 1)] h h') (n : G9 h' p e0 el' l) (n2 : GD h' el' bq lq) : RK h' p ic e0 sp (wEnd A l) bq lq pl el' := by
  obtain ⟨w0, wk, g1, g2, g3, g4, g5, g6, g7, g8, g9, g10, g11, fb, fl, nd, lb, ll, gd, gs⟩ := w
  have c := c.cg
  exact ⟨c.2.1 w0, c.k wk (by decide), g1.keep c (by decide), g2.keep c (by decide), g3.keep c (by decide), g4.keep c (by decide), g5.keep c (by decide), g6.keep c (by decide), g7.keep c (by decide), g8.keep c (by decide), n, g10.keep c (by decide), g11.keep c (by decide), fb.keep c (by decide), fl.keep c (by decide), nd, lb, ll, n2, gs.keep c (by decide)⟩
theorem G2.r {a : Nat → Nat → Int32} {x : Nat} (w : G2 h p a) : G2 (sR h 1 1 19 p x) p a := by
  intro k hk
  have e : zR (sR h 1 1 19 p x) 1 1 k p = zR h 1 1 k p := by
    rw [rRw, if_neg]
    rintro ⟨-, -, e, -⟩
    exact hk (by rw [e]; decide)
  rw [e]
  exact w k hk
theorem rk_set11 (w : RK h p ic e0 sp A bq lq pl el) {l : List Int32} {x : Nat} (n : RT h x l) : RK (sR h 1 1 19 p x) p ic e0 sp (wRet A l) bq lq pl el := by
  obtain ⟨w0, wk, g1, g2, g3, g4, g5, g6, g7, g8, g9, g10, g11, fb, fl, nd, lb, ll, gd, gs⟩ := w
  have c : Cg [] [(1, 1)] [] h (sR h 1 1 19 p x) := Cg.wR
  have e : ∀ k, k ≠ 19 → zR (sR h 1 1 19 p x) 1 1 k p = zR h 1 1 k p := fun k hk => by rw [rRw, if_neg (fun z => hk z.2.2.1)]
  exact ⟨c.2.1 w0, c.k wk (by decide), g1.keep c (by decide), g2.r, (by unfold G3; rw [e 4 (by decide)]; exact g3), (by unfold G4; rw [e 10 (by decide), e 22 (by decide)]; exact ⟨g4.1.keepg c (by decide) (by decide) (by decide), g4.2.keepg c (by decide) (by decide) (by decide)⟩), (by obtain ⟨a1, a2, a, a3⟩ := g5; unfold G5; rw [bx_keep c (by decide), e 13 (by decide)]; exact ⟨a1.keepg c (by decide) (by decide), a2, a, a3.keepg c (by decide) (by decide) (by decide)⟩), (by obtain ⟨a, a1⟩ := g6; unfold G6; rw [e 14 (by decide)]; exact ⟨a, a1.keepg c (by decide) (by decide) (by decide)⟩), (by obtain ⟨a, a1⟩ := g7; unfold G7; rw [e 15 (by decide)]; exact ⟨a, a1.keepg c (by decide) (by decide) (by decide)⟩), (by obtain ⟨ql, ns, a1, a2⟩ := g8; unfold G8; rw [e 25 (by decide)]; exact ⟨ql, ns, a1.keepg c (by decide) (by decide) (by decide), a2⟩), (by refine g9.imp id fun g9 => ?_; obtain ⟨a1, a2, a3⟩ := g9; unfold G9a; rw [e 30 (by decide)]; exact ⟨a1.keepg c (by decide) (by decide) (by decide), a2, fun i hi => (a3 i hi).keep c (by decide)⟩), (by obtain ⟨a1, a2⟩ := g10; unfold G10; rw [e 0 (by decide)]; exact ⟨a1.keepg c (by decide) (by decide) (by decide), a2⟩), (by unfold G11; rw [rRw, if_pos ⟨rfl, rfl, rfl, rfl⟩]; exact RT.keep n c (by decide)), fb.keep c (by decide), fl.keep c (by decide), nd, lb, ll, gd.keep c (by decide), gs.keep c (by decide)⟩
end RKW

/-! WRITES TO FLIGHTS -/
set_option maxRecDepth 100000
section FLW
variable {h h' : zH} {p ic e0 sp : Nat} {A : AS} {bq lq pl el : List Nat}
theorem fkl_i {k : Nat} (hk : k ∈ fkl) : k ≠ 22 ∧ k ≠ 0 ∧ k ≠ 3 ∧ k ≠ 21 := by
  simp only [fkl, List.mem_cons, List.not_mem_nil, or_false] at hk
  omega
theorem RT.fl {a : Nat} {l : List Int32} (w : RT h a l) {k q : Nat} {v : Int32} : RT (sI h 8 1 k q v) a l := RT.keep w (Cg.wI (h := h) (c := 8) (r := 1) (f := k) (p := q) (x := v)) (by decide)
/-- an int of a flight is written -/
theorem fr_w {q k : Nat} {f : FL} {v : Int32} (w : FR h pl q f) (hk : k ∈ fkl) (h1 : k ≠ 1) : FR (sI h 8 1 k q v) pl q (uF f k v) := by
  obtain ⟨w1, ⟨i, i1, i2, i3⟩, w3, w4, w5, w6, w7, w8⟩ := w
  obtain ⟨k22, k0, k3, k21⟩ := fkl_i hk
  have e : ∀ j, j ≠ k → (uF f k v).1 j = f.1 j := fun j hj => pu_ne hj
  refine ⟨w1, ⟨i, i1, by rw [e 1 (Ne.symm h1)]; exact i2, i3⟩, fun j hj => ?_, by rw [e 3 (Ne.symm k3)]; exact w4, w5.fl, w6.fl, ?_, ?_⟩
  · rw [rIw]
    by_cases c : j = k
    · subst c
      rw [if_pos ⟨rfl, rfl, rfl, rfl⟩]
      exact (pu_at _ _ _).symm
    · rw [if_neg (fun z => c z.2.2.1), e j c]; exact w3 j hj
  · rw [rIw, if_neg (fun z => k22 z.2.2.1.symm)]; exact w7
  · rw [e 21 (Ne.symm k21)]; exact w8
theorem fr_ne {q q' k : Nat} {f : FL} {v : Int32} (w : FR h pl q f) (hq : q ≠ q') : FR (sI h 8 1 k q' v) pl q f := by
  obtain ⟨w1, w2, w3, w4, w5, w6, w7, w8⟩ := w
  refine ⟨w1, w2, fun j hj => ?_, w4, w5.fl, w6.fl, ?_, w8⟩
  · rw [rIw, if_neg (fun z => hq z.2.2.2)]; exact w3 j hj
  · rw [rIw, if_neg (fun z => hq z.2.2.2)]; exact w7
/-- its source is written -/
theorem fr_s {q s : Nat} {f : FL} {n : Int32} (w : FR h pl q f) (ks : zK h s = (8, 1)) (hn : n ≠ -1) (hs : zL h 8 1 3 s = n.toInt64 + 1) : FR (sR h 8 1 21 q s) pl q (uF f 21 n) := by
  obtain ⟨w1, ⟨i, i1, i2, i3⟩, w3, w4, w5, w6, w7, w8⟩ := w
  have e : ∀ j, j ≠ 21 → (uF f 21 n).1 j = f.1 j := fun j hj => pu_ne hj
  have r : ∀ j, j ≠ 21 → zR (sR h 8 1 21 q s) 8 1 j q = zR h 8 1 j q := fun j hj => by rw [rRw, if_neg (fun z => hj z.2.2.1)]
  have c : Cg [] [(8, 1)] [] h (sR h 8 1 21 q s) := Cg.wR
  refine ⟨w1, ⟨i, i1, by rw [e 1 (by decide)]; exact i2, by rw [r 0 (by decide)]; exact i3⟩, fun j hj => ?_, by rw [e 3 (by decide)]; exact w4, by rw [r 4 (by decide)]; exact RT.keep w5 c (by decide), by rw [r 5 (by decide)]; exact RT.keep w6 c (by decide), w7, ?_⟩
  · rw [e j (fkl_i hj).2.2.2]; exact w3 j hj
  · rw [show (uF f 21 n).1 21 = n from pu_at f.1 21 n, rRw, if_pos ⟨rfl, rfl, rfl, rfl⟩]
    exact Or.inr ⟨hn, ks, hs⟩
theorem fr_sne {q q' s : Nat} {f : FL} (w : FR h pl q f) (hq : q ≠ q') : FR (sR h 8 1 21 q' s) pl q f := by
  obtain ⟨w1, ⟨i, i1, i2, i3⟩, w3, w4, w5, w6, w7, w8⟩ := w
  have r : ∀ j, zR (sR h 8 1 21 q' s) 8 1 j q = zR h 8 1 j q := fun j => by rw [rRw, if_neg (fun z => hq z.2.2.2)]
  have c : Cg [] [(8, 1)] [] h (sR h 8 1 21 q' s) := Cg.wR
  refine ⟨w1, ⟨i, i1, i2, by rw [r]; exact i3⟩, w3, w4, by rw [r]; exact RT.keep w5 c (by decide), by rw [r]; exact RT.keep w6 c (by decide), w7, by rw [r]; exact w8⟩
theorem nd_ne {qs : List Nat} (n : qs.Nodup) {i j : Nat} (hi : i < qs.length) (hj : j < qs.length) (e : i ≠ j) : qs.getD i 0 ≠ qs.getD j 0 := fun z => e (nd_inj n hi hj z)
theorem getD_mem {qs : List Nat} {i : Nat} (hi : i < qs.length) : qs.getD i 0 ∈ qs := by rw [getD_lt hi]; exact List.getElem_mem hi
theorem getD_set {α : Type} {l : List α} {i j : Nat} {x d : α} (hi : i < l.length) : (l.set i x).getD j d = if j = i then x else l.getD j d := by
  simp only [List.getD, List.getElem?_set]
  by_cases c : j = i
  · subst c; simp [hi]
  · rw [if_neg (fun e => c e.symm), if_neg c]
theorem fq_at {qs : List Nat} {fs : List FL} {i : Nat} {f : FL} (w : FQ h pl qs fs) (n : qs.Nodup) (hi : i < qs.length) (f1 : FR h' pl (qs.getD i 0) f) (o : ∀ q g, q ≠ qs.getD i 0 → FR h pl q g → FR h' pl q g) : FQ h' pl qs (fs.set i f) := by
  refine ⟨by rw [List.length_set]; exact w.1, fun j hj => ?_⟩
  rw [getD_set (by rw [← w.1]; exact hi)]
  by_cases c : j = i
  · subst c; rw [if_pos rfl]; exact f1
  · rw [if_neg c]; exact o _ _ (nd_ne n hj hi c) (w.2 j hj)
theorem fq_ne {qs : List Nat} {fs : List FL} {q0 : Nat} (w : FQ h pl qs fs) (hq : q0 ∉ qs) (o : ∀ q g, q ≠ q0 → FR h pl q g → FR h' pl q g) : FQ h' pl qs fs :=
  ⟨w.1, fun j hj => o _ _ (fun e => hq (by rw [← e]; exact getD_mem hj)) (w.2 j hj)⟩
theorem g9_ne {q k : Nat} {v : Int32} {l : List (Nat → Int32)} (w : G9 h p e0 el l) (hq : k = 22 ∨ 0 ∈ el ∨ ∀ x ∈ el, zR h 5 1 3 x ≠ q) : G9 (sI h 8 1 k q v) p e0 el l := by
  rcases w with w | w
  · exact Or.inl w
  by_cases h0 : 0 ∈ el
  · exact Or.inl h0
  refine Or.inr ?_
  obtain ⟨w1, w2, w3⟩ := w
  have c : Cg [(8, 1)] [] [] h (sI h 8 1 k q v) := Cg.wI
  refine ⟨w1.keepg c (by decide) (by decide) (by decide), w2, fun i hi => ?_⟩
  obtain ⟨a1, a2, a3, a4, a5⟩ := w3 i hi
  refine ⟨a1, a2, a3, a4, a5.imp id fun z => ?_⟩
  obtain ⟨z1, z2, z3, z4, z5, z6⟩ := z
  have e : ∀ j, j ≠ 22 → zI (sI h 8 1 k q v) 8 1 j (zR h 5 1 3 (el.getD i 0)) = zI h 8 1 j (zR h 5 1 3 (el.getD i 0)) := fun j hj => by
    rw [rIw, if_neg]
    rintro ⟨-, -, z, z'⟩
    rcases hq with e | e
    · exact hj (z.trans e)
    · exact (e.resolve_left h0) _ (getD_mem hi) z'
  refine ⟨z1, z2, ?_, ?_, ?_, ?_⟩
  · exact (e 2 (by decide)).trans z3
  · exact (e 7 (by decide)).trans z4
  · exact (e 8 (by decide)).trans z5
  · exact (e 9 (by decide)).trans z6
/-- the groups that no flight's int is in -/
theorem rk_f {q k : Nat} {v : Int32} {fs gs : List FL} (w : RK h p ic e0 sp A bq lq pl el) (hq : k = 22 ∨ 0 ∈ el ∨ ∀ x ∈ el, zR h 5 1 3 x ≠ q) (fb' : FQ (sI h 8 1 k q v) pl bq fs) (fl' : FQ (sI h 8 1 k q v) pl lq gs) : RK (sI h 8 1 k q v) p ic e0 sp (wLine (wBuf A fs) gs) bq lq pl el := by
  obtain ⟨w0, wk, g1, g2, g3, g4, g5, g6, g7, g8, g9, g10, g11, fb, fl, nd, lb, ll, gd, gs⟩ := w
  have c : Cg [(8, 1)] [] [] h (sI h 8 1 k q v) := Cg.wI
  exact ⟨c.2.1 w0, c.k wk (by decide), g1.keep c (by decide), g2.keep c (by decide), g3.keep c (by decide), g4.keep c (by decide), g5.keep c (by decide), g6.keep c (by decide), g7.keep c (by decide), g8.keep c (by decide), g9_ne g9 hq, g10.keep c (by decide), g11.keep c (by decide), fb', fl', nd, lb, ll, gd.keep c (by decide), gs.keep c (by decide)⟩
theorem nd_l (w : RK h p ic e0 sp A bq lq pl el) : bq.Nodup := (List.nodup_append.mp (rk_nd w)).1
theorem nd_r (w : RK h p ic e0 sp A bq lq pl el) : lq.Nodup := (List.nodup_append.mp (rk_nd w)).2.1
theorem nd_lr (w : RK h p ic e0 sp A bq lq pl el) {q : Nat} (hq : q ∈ bq) : q ∉ lq := fun z => (List.nodup_append.mp (rk_nd w)).2.2 q hq q z rfl
theorem ends_ne (w : RK h p ic e0 sp A bq lq pl el) {q : Nat} (hq : q ∈ bq) : 0 ∈ el ∨ ∀ x ∈ el, zR h 5 1 3 x ≠ q := (rk_gd w).imp id fun g x hx e => (g x hx).1 (by rw [e]; exact hq)
theorem ends_neL (w : RK h p ic e0 sp A bq lq pl el) {q : Nat} (hq : q ∈ lq) : 0 ∈ el ∨ ∀ x ∈ el, zR h 5 1 3 x ≠ q := (rk_gd w).imp id fun g x hx e => (g x hx).2 (by rw [e]; exact hq)
theorem buf_len (w : RK h p ic e0 sp A bq lq pl el) : bq.length = (aBuf A).length := (rk_fb w).1
theorem buf_fr (w : RK h p ic e0 sp A bq lq pl el) {i : Nat} (hi : i < bq.length) : FR h pl (bq.getD i 0) (gB A i) := (rk_fb w).2 i hi
/-- an int of a flight of the buffer -/
theorem rk_wF {i k : Nat} {v : Int32} (w : RK h p ic e0 sp A bq lq pl el) (hi : i < bq.length) (hk : k ∈ fkl) (h1 : k ≠ 1) : RK (sI h 8 1 k (bq.getD i 0) v) p ic e0 sp (upB A i (uF (gB A i) k v)) bq lq pl el :=
  rk_f w (Or.inr (ends_ne w (getD_mem hi))) (fq_at (rk_fb w) (nd_l w) hi (fr_w (buf_fr w hi) hk h1) (fun q g hq f => fr_ne f hq)) (fq_ne (rk_fl w) (nd_lr w (getD_mem hi)) (fun q g hq f => fr_ne f hq))
/-- an int of a flight elsewhere -/
theorem rk_wX {q k : Nat} {v : Int32} (w : RK h p ic e0 sp A bq lq pl el) (hb : q ∉ bq) (hl : q ∉ lq) (hq : k = 22 ∨ 0 ∈ el ∨ ∀ x ∈ el, zR h 5 1 3 x ≠ q) : RK (sI h 8 1 k q v) p ic e0 sp A bq lq pl el :=
  rk_f w hq (fq_ne (rk_fb w) hb (fun q g hq f => fr_ne f hq)) (fq_ne (rk_fl w) hl (fun q g hq f => fr_ne f hq))
theorem rk_wS21 {i s : Nat} {n : Int32} (w : RK h p ic e0 sp A bq lq pl el) (hi : i < bq.length) (ks : zK h s = (8, 1)) (hn : n ≠ -1) (hs : zL h 8 1 3 s = n.toInt64 + 1) : RK (sR h 8 1 21 (bq.getD i 0) s) p ic e0 sp (upB A i (uF (gB A i) 21 n)) bq lq pl el := by
  have fb' := fq_at (rk_fb w) (nd_l w) hi (fr_s (buf_fr w hi) ks hn hs) (fun q g hq f => fr_sne f hq)
  have fl' := fq_ne (rk_fl w) (nd_lr w (getD_mem hi)) (fun q g hq f => fr_sne (s := s) f hq)
  obtain ⟨w0, wk, g1, g2, g3, g4, g5, g6, g7, g8, g9, g10, g11, fb, fl, nd, lb, ll, gd, gs⟩ := w
  have c : Cg [] [(8, 1)] [] h (sR h 8 1 21 (bq.getD i 0) s) := Cg.wR
  exact ⟨c.2.1 w0, c.k wk (by decide), g1.keep c (by decide), g2.keep c (by decide), g3.keep c (by decide), g4.keep c (by decide), g5.keep c (by decide), g6.keep c (by decide), g7.keep c (by decide), g8.keep c (by decide), g9.keep c (by decide), g10.keep c (by decide), g11.keep c (by decide), fb', fl', nd, lb, ll, gd.keep c (by decide), gs.keep c (by decide)⟩
/-! the queue -/
def LQ (h : zH) (p : Nat) (qs : List Nat) : Prop := ∃ ns, LL h 55 (zR h 1 1 16 p) qs ns
theorem LQ.keep {mI mR mL : List (Nat × Nat)} {qs : List Nat} (w : LQ h p qs) (c : Cg mI mR mL h h') (d : d3 mI mR mL [(13, 55)] [(1, 1), (13, 55), (14, 55)] [] = true) : LQ h' p qs := by
  obtain ⟨d1, d2, d4⟩ := d3_e d
  obtain ⟨a, w⟩ := w
  unfold LQ
  rw [c.r (dj_n d2 (by simp) : (1, 1) ∉ mR)]
  exact ⟨a, w.keepg c (dj_n d1 (by simp)) (dj_n d2 (by simp)) (dj_n d2 (by simp))⟩
end FLW
/-- the handles that are queued -/
def qsOf : List Nat → List FL → List Nat
  | q :: qs, f :: fs => if f.1 14 = 113 then q :: qsOf qs fs else qsOf qs fs
  | _, _ => []
theorem qsOf_set : ∀ (qs : List Nat) (fs : List FL) (i : Nat) (f : FL), ((f.1 14 = 113) ↔ ((fs.getD i FL0).1 14 = 113)) → qsOf qs (fs.set i f) = qsOf qs fs
  | [], _, _, _, _ => rfl
  | _ :: _, [], _, _, _ => rfl
  | q :: qs, g :: fs, 0, f, h => by
    have h : (f.1 14 = 113) ↔ (g.1 14 = 113) := h
    show (if f.1 14 = 113 then q :: qsOf qs fs else qsOf qs fs) = if g.1 14 = 113 then q :: qsOf qs fs else qsOf qs fs
    by_cases c : g.1 14 = 113
    · rw [if_pos c, if_pos (h.mpr c)]
    · rw [if_neg c, if_neg (fun z => c (h.mp z))]
  | q :: qs, g :: fs, i + 1, f, h => by
    have ih := qsOf_set qs fs i f h
    show (if g.1 14 = 113 then q :: qsOf qs (fs.set i f) else qsOf qs (fs.set i f)) = if g.1 14 = 113 then q :: qsOf qs fs else qsOf qs fs
    rw [ih]
theorem qsOf_len : ∀ (qs : List Nat) (fs : List FL), (qsOf qs fs).length ≤ qs.length
  | [], _ => Nat.le_refl _
  | _ :: _, [] => Nat.zero_le _
  | q :: qs, g :: fs => by
    have ih := qsOf_len qs fs
    show (if g.1 14 = 113 then q :: qsOf qs fs else qsOf qs fs).length ≤ qs.length + 1
    split
    · exact Nat.succ_le_succ ih
    · exact Nat.le_succ_of_le ih
theorem qsOf_mem : ∀ (qs : List Nat) (fs : List FL) (q : Nat), q ∈ qsOf qs fs → q ∈ qs
  | [], _, _, h => by simp [qsOf] at h
  | _ :: _, [], _, h => by simp [qsOf] at h
  | q :: qs, g :: fs, x, h => by
    have ih := qsOf_mem qs fs x
    have h : x ∈ (if g.1 14 = 113 then q :: qsOf qs fs else qsOf qs fs) := h
    split at h
    · rcases List.mem_cons.mp h with e | e
      · rw [e]; exact List.mem_cons_self
      · exact List.mem_cons_of_mem _ (ih e)
    · exact List.mem_cons_of_mem _ (ih h)

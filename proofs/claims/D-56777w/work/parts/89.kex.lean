/-! THE FRAME: what is new does not matter -/
set_option maxRecDepth 100000
def Ex (h h' : zH) : Prop := zWf h' ∧ ∀ q, (zK h q).1 ≠ 0 → zK h' q = zK h q ∧ zN h' q = zN h q ∧ (∀ c s k, zI h' c s k q = zI h c s k q) ∧ (∀ c s k, zR h' c s k q = zR h c s k q) ∧ ∀ c s k, zL h' c s k q = zL h c s k q
section EX
variable {h h' h1 : zH} {p ic e0 sp : Nat} {A : AS} {bq lq pl el : List Nat}
theorem Ex.rf (w : zWf h) : Ex h h := ⟨w, fun _ _ => ⟨rfl, rfl, fun _ _ _ => rfl, fun _ _ _ => rfl, fun _ _ _ => rfl⟩⟩
theorem Ex.k (a : Ex h h') {q c s : Nat} (hq : zK h q = (c, s)) (h0 : c ≠ 0) : zK h' q = (c, s) := by rw [(a.2 q (by rw [hq]; exact h0)).1]; exact hq
theorem Ex.n (a : Ex h h') {q c s : Nat} (hq : zK h q = (c, s)) (h0 : c ≠ 0) : zN h' q = zN h q := (a.2 q (by rw [hq]; exact h0)).2.1
theorem Ex.i (a : Ex h h') {q c s c' s' k : Nat} (hq : zK h q = (c, s)) (h0 : c ≠ 0) : zI h' c' s' k q = zI h c' s' k q := (a.2 q (by rw [hq]; exact h0)).2.2.1 c' s' k
theorem Ex.r (a : Ex h h') {q c s c' s' k : Nat} (hq : zK h q = (c, s)) (h0 : c ≠ 0) : zR h' c' s' k q = zR h c' s' k q := (a.2 q (by rw [hq]; exact h0)).2.2.2.1 c' s' k
theorem Ex.l (a : Ex h h') {q c s c' s' k : Nat} (hq : zK h q = (c, s)) (h0 : c ≠ 0) : zL h' c' s' k q = zL h c' s' k q := (a.2 q (by rw [hq]; exact h0)).2.2.2.2 c' s' k
theorem Ex.new (a : Ex h h1) {c r n : Nat} : Ex h (nw h1 c r n) := by
  have wf := a.1
  have w' : zWf (nw h1 c r n) := by
    intro q hq
    rw [zK_nw] at hq
    by_cases e : q = zT h1 + 1
    · rw [e]; exact ⟨by omega, Nat.le_refl _⟩
    · rw [if_neg e] at hq
      have := wf q hq
      exact ⟨this.1, Nat.le_succ_of_le this.2⟩
  refine ⟨w', fun q hq => ?_⟩
  obtain ⟨b1, b2, b3, b4, b5⟩ := a.2 q hq
  have ne : ¬ q = zT h1 + 1 := fun e => by
    have := (wf q (by rw [b1]; exact hq)).2
    omega
  exact ⟨by rw [zK_nw, if_neg ne]; exact b1, by rw [nw_N wf (c' := (zK h1 q).1) (r' := (zK h1 q).2) rfl (by rw [b1]; exact hq)]; exact b2, fun _ _ _ => by rw [nwI ne]; exact b3 _ _ _, fun _ _ _ => by rw [nwR ne]; exact b4 _ _ _, fun _ _ _ => by rw [nwL ne]; exact b5 _ _ _⟩
theorem Ex.sI (a : Ex h h1) {c r k q : Nat} {v : Int32} (n : (zK h q).1 = 0) : Ex h (sI h1 c r k q v) := ⟨a.1, fun x hx => by
  obtain ⟨b1, b2, b3, b4, b5⟩ := a.2 x hx
  exact ⟨b1, b2, fun _ _ _ => by rw [rIw, if_neg (fun z => hx (by rw [z.2.2.2]; exact n))]; exact b3 _ _ _, b4, b5⟩⟩
theorem Ex.sR (a : Ex h h1) {c r k q x : Nat} (n : (zK h q).1 = 0) : Ex h (sR h1 c r k q x) := ⟨a.1, fun x hx => by
  obtain ⟨b1, b2, b3, b4, b5⟩ := a.2 x hx
  exact ⟨b1, b2, b3, fun _ _ _ => by rw [rRw, if_neg (fun z => hx (by rw [z.2.2.2]; exact n))]; exact b4 _ _ _, b5⟩⟩
theorem Ex.sL (a : Ex h h1) {c r k q : Nat} {x : Int64} (n : (zK h q).1 = 0) : Ex h (sL h1 c r k q x) := ⟨a.1, fun x hx => by
  obtain ⟨b1, b2, b3, b4, b5⟩ := a.2 x hx
  exact ⟨b1, b2, b3, b4, fun _ _ _ => by rw [rLw, if_neg (fun z => hx (by rw [z.2.2.2]; exact n))]; exact b5 _ _ _⟩⟩
theorem new0 (w : zWf h) : (zK h (zT h + 1)).1 = 0 := by
  by_cases c : (zK h (zT h + 1)).1 = 0
  · exact c
  · have := (w _ c).2; omega
theorem RT.ex {a : Nat} {l : List Int32} (w : RT h a l) (x : Ex h h') : RT h' a l := by
  obtain ⟨w1, w2, w3, w4⟩ := w
  exact ⟨x.k w1 (by decide), by rw [x.n w1 (by decide)]; exact w2, w3, fun i hi => by rw [x.i w1 (by decide)]; exact w4 i hi⟩
theorem FR.ex {q : Nat} {f : FL} (w : FR h pl q f) (x : Ex h h') : FR h' pl q f := by
  obtain ⟨w1, ⟨i, i1, i2, i3⟩, w3, w4, w5, w6, w7, w8⟩ := w
  have d : (8 : Nat) ≠ 0 := by decide
  refine ⟨x.k w1 d, ⟨i, i1, i2, by rw [x.r w1 d]; exact i3⟩, fun k hk => by rw [x.i w1 d]; exact w3 k hk, by rw [x.l w1 d]; exact w4, by rw [x.r w1 d]; exact w5.ex x, by rw [x.r w1 d]; exact w6.ex x, by rw [x.i w1 d]; exact w7, ?_⟩
  rw [x.r w1 d]
  exact w8.imp id fun z => ⟨z.1, x.k z.2.1 d, by rw [x.l z.2.1 d]; exact z.2.2⟩
theorem FQ.ex {qs : List Nat} {fs : List FL} (w : FQ h pl qs fs) (x : Ex h h') : FQ h' pl qs fs := ⟨w.1, fun i hi => (w.2 i hi).ex x⟩
theorem ER.ex {q : Nat} {e : Nat → Int32} (w : ER h q e) (x : Ex h h') : ER h' q e := by
  obtain ⟨w1, w2, w3, w4, w5⟩ := w
  have d : (5 : Nat) ≠ 0 := by decide
  refine ⟨x.k w1 d, by rw [x.i w1 d]; exact w2, by rw [x.i w1 d]; exact w3, by rw [x.i w1 d]; exact w4, ?_⟩
  rw [x.r w1 d]
  refine w5.imp id fun z => ?_
  obtain ⟨z1, z2, z3, z4, z5, z6⟩ := z
  have d : (8 : Nat) ≠ 0 := by decide
  exact ⟨z1, x.k z2 d, by rw [x.i z2 d]; exact z3, by rw [x.i z2 d]; exact z4, by rw [x.i z2 d]; exact z5, by rw [x.i z2 d]; exact z6⟩
theorem LL.ex {l s : Nat} {xs ns : List Nat} (w : LL h s l xs ns) (x : Ex h h') : LL h' s l xs ns := by
  obtain ⟨w1, w2, w3, w4, w5, w6, w7, w8⟩ := w
  refine ⟨x.k w1 (by decide), w2, w3, w4, fun i hi => ?_, by rw [x.r w1 (by decide)]; exact w6, by rw [x.r w1 (by decide)]; exact w7, by rw [x.i w1 (by decide)]; exact w8⟩
  obtain ⟨b1, b2, b3, b4, b5⟩ := w5 i hi
  exact ⟨x.k b1 (by decide), b2, by rw [x.r b1 (by decide)]; exact b3, by rw [x.r b1 (by decide)]; exact b4, by rw [x.r b1 (by decide)]; exact b5⟩
theorem AD.ex {r d a : Nat} {xs : List Nat} (w : AD h r d xs a) (x : Ex h h') : AD h' r d xs a := by
  obtain ⟨w1, w2, w3, w4, w5, w6, w7, w8⟩ := w
  unfold AD
  rw [x.r w1 (by decide), x.i w1 (by decide), x.i w1 (by decide), x.n w2 (by decide)]
  exact ⟨x.k w1 (by decide), x.k w2 (by decide), w3, w4, w5, w6, w7, fun i hi => by rw [x.r w2 (by decide)]; exact w8 i hi⟩
theorem Ex.o (a : Ex h h') {x : Nat} (g : oka h x = true) : oka h' x = true := by
  rcases oka_e g with g | g
  · rw [g]; exact oka_0
  · have h0 : (zK h x).1 ≠ 0 := by
      intro e
      rw [e] at g
      exact absurd g (by decide)
    unfold oka
    rw [(a.2 x h0).1, Bool.or_eq_true]
    exact Or.inr (List.contains_iff_mem.mpr g)
theorem AL.ex {r l : Nat} {xs : List Nat} (w : AL h e0 r l xs) (x : Ex h h') : AL h' e0 r l xs := by
  obtain ⟨w1, w2, w3, k0, k1, w4⟩ := w
  unfold AL
  rw [x.r w1 (by decide), x.i w1 (by decide), x.n k0 (by decide)]
  refine ⟨x.k w1 (by decide), w2, w3, x.k k0 (by decide), k1, ?_⟩
  rcases w4 with ⟨a1, a2⟩ | ⟨a1, a2, a3, a4, a5, a6, a7⟩
  · exact Or.inl ⟨a1, a2⟩
  · rw [x.n a1 (by decide)]
    exact Or.inr ⟨x.k a1 (by decide), a2, a3, a4, a5, a6, fun i hi => ⟨by rw [x.r a1 (by decide)]; exact (a7 i hi).1, x.o (a7 i hi).2⟩⟩
theorem BS.ex {r b : Nat} {f : Nat → Bool} (w : BS h r b f) (x : Ex h h') : BS h' r b f := by
  obtain ⟨w1, w2, w3, w4, w5⟩ := w
  unfold BS
  rw [x.r w1 (by decide), x.i w1 (by decide), x.n w2 (by decide), x.l w2 (by decide)]
  exact ⟨x.k w1 (by decide), x.k w2 (by decide), w3, w4, w5⟩
theorem IC.ex (w : IC h ic) (x : Ex h h') : IC h' ic := by
  obtain ⟨w1, w2, w3⟩ := w
  refine ⟨x.k w1 (by decide), by rw [x.n w1 (by decide)]; exact w2, fun k hk => ?_⟩
  rw [x.r w1 (by decide)]
  exact ⟨x.k (w3 k hk).1 (by decide), by rw [x.i (w3 k hk).1 (by decide)]; exact (w3 k hk).2⟩
theorem rk_ex (w : RK h p ic e0 sp A bq lq pl el) (x : Ex h h') : RK h' p ic e0 sp A bq lq pl el := by
  obtain ⟨w0, wk, g1, g2, g3, g4, g5, g6, g7, g8, g9, g10, g11, fb, fl, nd, lb, ll, gd, gs⟩ := w
  have d : (1 : Nat) ≠ 0 := by decide
  have g9' : G9 h' p e0 el (aEnd A) := by
    refine g9.imp id fun g9 => ?_
    obtain ⟨a1, a2, a3⟩ := g9
    exact ⟨by rw [x.r wk d]; exact a1.ex x, a2, fun i hi => (a3 i hi).ex x⟩
  have gd' : GD h' el bq lq := by
    by_cases h0 : 0 ∈ el
    · exact Or.inl h0
    refine Or.inr fun q hq => ?_
    have g9 := g9.resolve_left h0
    have gd := gd.resolve_left h0
    obtain ⟨i, hi, e⟩ := List.mem_iff_getElem.mp hq
    have := (g9.2.2 i hi).1
    rw [getD_lt hi, e] at this
    rw [x.r this (by decide)]
    exact gd q hq
  refine ⟨x.1, x.k wk d, ?_, ?_, ?_, ?_, ?_, ?_, ?_, ?_, g9', ?_, ?_, fb.ex x, fl.ex x, nd, lb, ll, gd', ?_⟩
  · exact ⟨fun k hk => by rw [x.i wk d]; exact g1.1 k hk, by rw [x.l wk d]; exact g1.2.1, by rw [x.l wk d]; exact g1.2.2⟩
  · intro k hk
    obtain ⟨a1, a2, a3⟩ := g2 k hk
    rw [x.r wk d]
    exact ⟨x.k a1 (by decide), by rw [x.n a1 (by decide)]; exact a2, fun j hj => by rw [x.i a1 (by decide)]; exact a3 j hj⟩
  · unfold G3
    rw [x.r wk d]
    exact ⟨x.k g3.1 (by decide), fun j hj => by rw [x.i g3.1 (by decide)]; exact g3.2 j hj⟩
  · unfold G4
    rw [x.r wk d, x.r wk d]
    exact ⟨g4.1.ex x, g4.2.ex x⟩
  · obtain ⟨a1, a2, a, a3⟩ := g5
    have eb : bx h' ic = bx h ic := by funext n; unfold bx; rw [x.r a1.1 (by decide)]
    unfold G5
    rw [eb, x.r wk d]
    exact ⟨a1.ex x, a2, a, a3.ex x⟩
  · obtain ⟨a, a1⟩ := g6
    exact ⟨a, by rw [x.r wk d]; exact a1.ex x⟩
  · obtain ⟨a, a1⟩ := g7
    exact ⟨a, by rw [x.r wk d]; exact a1.ex x⟩
  · obtain ⟨ql, ns, a1, a2, a3⟩ := g8
    refine ⟨ql, ns, by rw [x.r wk d]; exact a1.ex x, a2, fun i hi => ?_⟩
    obtain ⟨b1, b2, b3⟩ := a3 i hi
    exact ⟨x.k b1 (by decide), by rw [x.i b1 (by decide)]; exact b2, by rw [x.i b1 (by decide)]; exact b3⟩
  · obtain ⟨a1, a2, a3, a4⟩ := g10
    exact ⟨by rw [x.r wk d]; exact a1.ex x, a2, a3, fun i hi => ⟨x.k (a4 i hi).1 (by decide), fun j hj => by rw [x.i (a4 i hi).1 (by decide)]; exact (a4 i hi).2 j hj⟩⟩
  · unfold G11
    rw [x.r wk d]
    exact RT.ex g11 x
  · obtain ⟨w1, w2, w3, w4, w5⟩ := gs
    refine ⟨x.k w1 (by decide), by rw [x.i w1 (by decide)]; exact w2, ?_⟩
    rw [x.r w1 (by decide)]
    exact ⟨x.k w3 (by decide), by rw [x.n w3 (by decide)]; exact w4, fun j hj => by rw [x.i w3 (by decide)]; exact w5 j hj⟩
theorem rq_ex (w : RQ h p ic e0 sp A bq lq pl el) (x : Ex h h') : RQ h' p ic e0 sp A bq lq pl el := by
  obtain ⟨ns, a⟩ := w.2
  exact ⟨rk_ex w.1 x, ns, by rw [x.r (rk_wk w.1) (by decide)]; exact a.ex x⟩
end EX

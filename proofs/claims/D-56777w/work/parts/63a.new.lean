/-! NEW OBJECTS BESIDE THE COMPONENT'S -/
set_option maxRecDepth 100000
section NEWO
variable {h h' : zH} {p ic e0 sp : Nat} {A : AS} {bq lq pl el : List Nat} {c r n : Nat}
theorem nwI {q c' r' f : Nat} (hq : ¬ q = zT h + 1) : zI (nw h c r n) c' r' f q = zI h c' r' f q := by rw [rIn, if_neg (fun z => hq z.2.2)]
theorem nwR {q c' r' f : Nat} (hq : ¬ q = zT h + 1) : zR (nw h c r n) c' r' f q = zR h c' r' f q := by rw [rRn, if_neg (fun z => hq z.2.2)]
theorem nwL {q c' r' f : Nat} (hq : ¬ q = zT h + 1) : zL (nw h c r n) c' r' f q = zL h c' r' f q := by rw [rLn, if_neg (fun z => hq z.2.2)]
theorem RT.nw {a : Nat} {l : List Int32} (w : RT h a l) (hw : zWf h) : RT (nw h c r n) a l := by
  obtain ⟨w1, w2, w3, w4⟩ := w
  have ha := wf_ne hw w1 (by decide)
  exact ⟨nw_K hw w1 (by decide), by rw [nw_N hw w1 (by decide)]; exact w2, w3, fun i hi => by rw [nwI ha]; exact w4 i hi⟩
theorem FR.nw {q : Nat} {f : FL} (w : FR h pl q f) (hw : zWf h) : FR (nw h c r n) pl q f := by
  obtain ⟨w1, ⟨i, i1, i2, i3⟩, w3, w4, w5, w6, w7, w8⟩ := w
  have hq := wf_ne hw w1 (by decide)
  refine ⟨nw_K hw w1 (by decide), ⟨i, i1, i2, by rw [nwR hq]; exact i3⟩, fun k hk => by rw [nwI hq]; exact w3 k hk, by rw [nwL hq]; exact w4, by rw [nwR hq]; exact w5.nw hw, by rw [nwR hq]; exact w6.nw hw, by rw [nwI hq]; exact w7, ?_⟩
  rw [nwR hq]
  exact w8.imp id fun z => ⟨z.1, nw_K hw z.2.1 (by decide), by rw [nwL (wf_ne hw z.2.1 (by decide))]; exact z.2.2⟩
theorem FQ.nw {qs : List Nat} {fs : List FL} (w : FQ h pl qs fs) (hw : zWf h) : FQ (nw h c r n) pl qs fs := ⟨w.1, fun i hi => (w.2 i hi).nw hw⟩
theorem ER.nw {q : Nat} {e : Nat → Int32} (w : ER h q e) (hw : zWf h) : ER (nw h c r n) q e := by
  obtain ⟨w1, w2, w3, w4, w5⟩ := w
  have hq := wf_ne hw w1 (by decide)
  refine ⟨nw_K hw w1 (by decide), by rw [nwI hq]; exact w2, by rw [nwI hq]; exact w3, by rw [nwI hq]; exact w4, ?_⟩
  rw [nwR hq]
  refine w5.imp id fun z => ?_
  obtain ⟨z1, z2, z3, z4, z5, z6⟩ := z
  have hz := wf_ne hw z2 (by decide)
  exact ⟨z1, nw_K hw z2 (by decide), by rw [nwI hz]; exact z3, by rw [nwI hz]; exact z4, by rw [nwI hz]; exact z5, by rw [nwI hz]; exact z6⟩
theorem LL.nw {l : Nat} {s : Nat} {xs ns : List Nat} (w : LL h s l xs ns) (hw : zWf h) : LL (nw h c r n) s l xs ns := by
  obtain ⟨w1, w2, w3, w4, w5, w6, w7, w8⟩ := w
  have hl := wf_ne hw w1 (by decide)
  refine ⟨nw_K hw w1 (by decide), w2, w3, w4, fun i hi => ?_, by rw [nwR hl]; exact w6, by rw [nwR hl]; exact w7, by rw [nwI hl]; exact w8⟩
  obtain ⟨b1, b0, b2, b3, b4⟩ := w5 i hi
  have hq := wf_ne hw b1 (by decide)
  exact ⟨nw_K hw b1 (by decide), b0, by rw [nwR hq]; exact b2, by rw [nwR hq]; exact b3, by rw [nwR hq]; exact b4⟩
theorem rk_nw (w : RK h p ic e0 sp A bq lq pl el) (hc : (c, r) = (201, 29) ∨ (c, r) = (8, 1) ∨ (c, r) = (5, 1) ∨ (c, r) = (7, 1) ∨ (c, r) = (4, 1)) : RK (nw h c r n) p ic e0 sp A bq lq pl el := by
  obtain ⟨w0, wk, g1, g2, g3, g4, g5, g6, g7, g8, g9, g10, g11, fb, fl, nd, lb, ll, gd, gs⟩ := w
  have ch : Ch [(c, r)] h (nw h c r n) := Ch.rf.nw w0 (by simp)
  have cg := ch.cg
  have ep : ∀ k, zR (nw h c r n) 1 1 k p = zR h 1 1 k p := fun k => nwR (wf_ne w0 wk (by decide))
  have g8' : G8 (nw h c r n) p (aAsk A) := by
    obtain ⟨ql, ns, a1, a2, a3⟩ := g8
    unfold G8
    rw [ep]
    refine ⟨ql, ns, a1.nw w0, a2, fun i hi => ?_⟩
    obtain ⟨b1, b2, b3⟩ := a3 i hi
    have hq := wf_ne w0 b1 (by decide)
    exact ⟨nw_K w0 b1 (by decide), by rw [nwI hq]; exact b2, by rw [nwI hq]; exact b3⟩
  have g9' : G9 (nw h c r n) p e0 el (aEnd A) := by
    refine g9.imp id fun g9 => ?_
    obtain ⟨a1, a2, a3⟩ := g9
    unfold G9a
    rw [ep]
    refine ⟨?_, a2, fun i hi => (a3 i hi).nw w0⟩
    rcases hc with e | e | e | e | e <;> (cases e; exact a1.keep ch (by decide) (by decide))
  have g10' : G10 (nw h c r n) p e0 pl (aS A) (aA A) := by
    obtain ⟨a1, a2, a3, a4⟩ := g10
    unfold G10
    rw [ep]
    refine ⟨?_, a2, a3, fun i hi => ⟨nw_K w0 (a4 i hi).1 (by decide), fun j hj => by rw [nwI (wf_ne w0 (a4 i hi).1 (by decide))]; exact (a4 i hi).2 j hj⟩⟩
    rcases hc with e | e | e | e | e <;> (cases e; exact a1.keep ch (by decide) (by decide))
  have g11' : G11 (nw h c r n) p (aRet A) := by
    unfold G11
    rw [ep]
    exact RT.nw g11 w0
  have gd' : GD (nw h c r n) el bq lq := by
    by_cases h0 : 0 ∈ el
    · exact Or.inl h0
    refine Or.inr fun q hq => ?_
    have g9 := g9.resolve_left h0
    have gd := gd.resolve_left h0
    obtain ⟨i, hi, e⟩ := List.mem_iff_getElem.mp hq
    have := (g9.2.2 i hi).1
    rw [getD_lt hi, e] at this
    rw [nwR (wf_ne w0 this (by decide))]
    exact gd q hq
  rcases hc with e | e | e | e | e <;> (cases e; exact ⟨cg.2.1 w0, nw_K w0 wk (by decide), g1.keep cg (by decide), g2.keep cg (by decide), g3.keep cg (by decide), g4.keep cg (by decide), g5.keep cg (by decide), g6.keep cg (by decide), g7.keep cg (by decide), g8', g9', g10', g11', fb.nw w0, fl.nw w0, nd, lb, ll, gd', gs.keep cg (by decide)⟩)
theorem LQ.nw {qs : List Nat} (w : LQ h p qs) (hw : zWf h) (wk : zK h p = (1, 1)) : LQ (nw h c r n) p qs := by
  obtain ⟨ns, a⟩ := w
  refine ⟨ns, ?_⟩
  rw [nwR (wf_ne hw wk (by decide))]
  exact a.nw hw
end NEWO

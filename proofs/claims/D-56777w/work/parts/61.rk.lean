/-! THE HEAP HOLDS THE COMPONENT -/
set_option maxRecDepth 100000
/-- what is written, by kind: ints, references, longs -/
def Cg (mI mR mL : List (Nat × Nat)) (h h' : zH) : Prop := zT h ≤ zT h' ∧ (zWf h → zWf h') ∧ (∀ q, (zK h q).1 ≠ 0 → zK h' q = zK h q ∧ zN h' q = zN h q) ∧ ∀ c s, ((c, s) ∉ mI → zI h' c s = zI h c s) ∧ ((c, s) ∉ mR → zR h' c s = zR h c s) ∧ ((c, s) ∉ mL → zL h' c s = zL h c s)
theorem Ch.cg {m : List (Nat × Nat)} {h h' : zH} (a : Ch m h h') : Cg m m m h h' := ⟨a.1, a.2.1, a.2.2.1, fun c s => ⟨fun e => a.i e, fun e => a.r e, fun e => a.g e⟩⟩
section CG
variable {mI mR mL : List (Nat × Nat)} {h h0 h1 h2 h' : zH}
theorem Cg.k (a : Cg mI mR mL h h') {q c s : Nat} (hq : zK h q = (c, s)) (h0 : c ≠ 0) : zK h' q = (c, s) := by rw [(a.2.2.1 q (by rw [hq]; exact h0)).1]; exact hq
theorem Cg.n (a : Cg mI mR mL h h') {q c s : Nat} (hq : zK h q = (c, s)) (h0 : c ≠ 0) : zN h' q = zN h q := (a.2.2.1 q (by rw [hq]; exact h0)).2
theorem Cg.i (a : Cg mI mR mL h h') {c s : Nat} (e : (c, s) ∉ mI) : zI h' c s = zI h c s := (a.2.2.2 c s).1 e
theorem Cg.r (a : Cg mI mR mL h h') {c s : Nat} (e : (c, s) ∉ mR) : zR h' c s = zR h c s := (a.2.2.2 c s).2.1 e
theorem Cg.l (a : Cg mI mR mL h h') {c s : Nat} (e : (c, s) ∉ mL) : zL h' c s = zL h c s := (a.2.2.2 c s).2.2 e
theorem Cg.wI {c r f p : Nat} {x : Int32} : Cg [(c, r)] [] [] h (sI h c r f p x) := ⟨Nat.le_refl _, fun w => w, fun _ _ => ⟨rfl, rfl⟩, fun c' s => ⟨fun e => by rw [zI_sI, if_neg]; rintro ⟨rfl, rfl⟩; simp at e, fun _ => rfl, fun _ => rfl⟩⟩
theorem Cg.wR {c r f p x : Nat} : Cg [] [(c, r)] [] h (sR h c r f p x) := ⟨Nat.le_refl _, fun w => w, fun _ _ => ⟨rfl, rfl⟩, fun c' s => ⟨fun _ => rfl, fun e => by rw [zR_sR, if_neg]; rintro ⟨rfl, rfl⟩; simp at e, fun _ => rfl⟩⟩
theorem Cg.wL {c r f p : Nat} {x : Int64} : Cg [] [] [(c, r)] h (sL h c r f p x) := ⟨Nat.le_refl _, fun w => w, fun _ _ => ⟨rfl, rfl⟩, fun c' s => ⟨fun _ => rfl, fun _ => rfl, fun e => by rw [zL_sL, if_neg]; rintro ⟨rfl, rfl⟩; simp at e⟩⟩
end CG
def dj (m f : List (Nat × Nat)) : Bool := m.all fun x => !f.contains x
theorem dj_n {m f : List (Nat × Nat)} {x : Nat × Nat} (d : dj m f = true) (hx : x ∈ f) : x ∉ m := fun hm => by
  have := List.all_eq_true.mp d x hm
  simp [hx] at this
def d3 (mI mR mL fI fR fL : List (Nat × Nat)) : Bool := dj mI fI && (dj mR fR && dj mL fL)
theorem d3_e {mI mR mL fI fR fL : List (Nat × Nat)} (d : d3 mI mR mL fI fR fL = true) : dj mI fI = true ∧ dj mR fR = true ∧ dj mL fL = true := by
  unfold d3 at d
  simp only [Bool.and_eq_true] at d
  exact d
def skl : List Nat := [5, 6, 7, 8, 17, 26, 27, 28, 29, 32, 33, 34, 35]
def aln (k : Nat) : Nat := if k = 1 ∨ k = 11 ∨ k = 12 ∨ k = 21 ∨ k = 31 then 8 else if k = 2 ∨ k = 3 then 64 else if k = 9 then 24 else if k = 20 ∨ k = 23 then 16 else if k = 24 then 4 else 0
def fkl : List Nat := [1, 2, 6, 7, 8, 9, 10, 11, 12, 13, 14, 15, 16, 17, 18, 19, 20]
theorem aln_in {k : Nat} (e : aln k ≠ 0) : k ∈ [1, 2, 3, 9, 11, 12, 20, 21, 23, 24, 31] := by
  unfold aln at e
  simp only [List.mem_cons, List.not_mem_nil, or_false]
  split at e
  · omega
  · split at e
    · omega
    · split at e
      · omega
      · split at e
        · omega
        · split at e
          · omega
          · exact absurd rfl e
def G1 (h : zH) (p : Nat) (s : Nat → Int32) : Prop := (∀ k, k ∈ skl → zI h 1 1 k p = s k) ∧ zL h 1 1 18 p = (s 18).toInt64 ∧ zL h 1 1 36 p = (s 36).toInt64 + 1000 * (s 37).toInt64
def G2 (h : zH) (p : Nat) (a : Nat → Nat → Int32) : Prop := ∀ k, aln k ≠ 0 → zK h (zR h 1 1 k p) = (201, 10 + k) ∧ zN h (zR h 1 1 k p) = aln k ∧ ∀ j, j < aln k → zI h 201 (10 + k) j (zR h 1 1 k p) = a k j
def G3 (h : zH) (p : Nat) (s : Nat → Int32) : Prop := zK h (zR h 1 1 4 p) = (2, 1) ∧ ∀ j, j < 4 → zI h 2 1 j (zR h 1 1 4 p) = s (40 + j)
def G4 (h : zH) (p : Nat) (a : Nat → Nat → Int32) : Prop := BS h 51 (zR h 1 1 10 p) (fun j => decide (a 10 j = 1)) ∧ BS h 56 (zR h 1 1 22 p) (fun j => decide (a 22 j = 1))
def G5 (h : zH) (p ic : Nat) (l : List Int32) : Prop := IC h ic ∧ (∀ v ∈ l, ix v < 24 ∧ v = nI (ix v)) ∧ ∃ a, AD h 52 (zR h 1 1 13 p) (l.map fun v => bx h ic (ix v)) a
def RT (h : zH) (a : Nat) (l : List Int32) : Prop := zK h a = (201, 29) ∧ zN h a = l.length ∧ l.length ≤ 4 ∧ ∀ i, i < l.length → zI h 201 29 i a = l.getD i 0
def FR (h : zH) (pl : List Nat) (q : Nat) (f : FL) : Prop := zK h q = (8, 1) ∧ (∃ i, i < pl.length ∧ f.1 1 = nI i ∧ zR h 8 1 0 q = pl.getD i 0) ∧ (∀ k, k ∈ fkl → zI h 8 1 k q = f.1 k) ∧ zL h 8 1 3 q = (f.1 3).toInt64 + 1 ∧ RT h (zR h 8 1 4 q) f.2.1 ∧ RT h (zR h 8 1 5 q) f.2.2 ∧ zI h 8 1 22 q = 0 ∧
  ((f.1 21 = -1 ∧ zR h 8 1 21 q = 0) ∨ (f.1 21 ≠ -1 ∧ zK h (zR h 8 1 21 q) = (8, 1) ∧ zL h 8 1 3 (zR h 8 1 21 q) = (f.1 21).toInt64 + 1))
def FQ (h : zH) (pl qs : List Nat) (fs : List FL) : Prop := qs.length = fs.length ∧ ∀ i, i < qs.length → FR h pl (qs.getD i 0) (fs.getD i FL0)
def G6 (h : zH) (p : Nat) (lq : List Nat) : Prop := ∃ a, AD h 53 (zR h 1 1 14 p) lq a
def G7 (h : zH) (p : Nat) (bq : List Nat) : Prop := ∃ ns, LL h 54 (zR h 1 1 15 p) bq ns
def GQ (h : zH) (p : Nat) (bq : List Nat) : Prop := ∃ ns, LL h 55 (zR h 1 1 16 p) (bq.filter fun q => decide (zI h 8 1 14 q = 113)) ns
def G8 (h : zH) (p : Nat) (l : List (Int32 × Int32)) : Prop := ∃ ql ns, LL h 57 (zR h 1 1 25 p) ql ns ∧ ql.length = l.length ∧ ∀ i, i < ql.length → zK h (ql.getD i 0) = (7, 1) ∧ zI h 7 1 0 (ql.getD i 0) = (l.getD i (0, 0)).1 ∧ zI h 7 1 1 (ql.getD i 0) = (l.getD i (0, 0)).2
def ER (h : zH) (q : Nat) (e : Nat → Int32) : Prop := zK h q = (5, 1) ∧ zI h 5 1 0 q = e 0 ∧ zI h 5 1 1 q = e 1 ∧ zI h 5 1 2 q = e 2 ∧ ((e 3 = 0 ∧ zR h 5 1 3 q = 0) ∨ (e 3 = 1 ∧ zK h (zR h 5 1 3 q) = (8, 1) ∧ zI h 8 1 2 (zR h 5 1 3 q) = e 4 ∧ zI h 8 1 7 (zR h 5 1 3 q) = e 5 ∧ zI h 8 1 8 (zR h 5 1 3 q) = e 6 ∧ zI h 8 1 9 (zR h 5 1 3 q) = e 7))
/-- 0 in the list of ends: nothing is known of them (a while) -/
def G9a (h : zH) (p e0 : Nat) (el : List Nat) (l : List (Nat → Int32)) : Prop := AL h e0 58 (zR h 1 1 30 p) el ∧ el.length = l.length ∧ ∀ i, i < el.length → ER h (el.getD i 0) (l.getD i fun _ => 0)
def G10 (h : zH) (p e0 : Nat) (pl : List Nat) (s : Nat → Int32) (a : Nat → Nat → Int32) : Prop := AL h e0 50 (zR h 1 1 0 p) pl ∧ pl.length ≤ 64 ∧ s 0 = nI pl.length ∧ ∀ i, i < pl.length → zK h (pl.getD i 0) = (4, 1) ∧ ∀ j, j < 5 → zI h 4 1 j (pl.getD i 0) = a (50 + j) i
def G11 (h : zH) (p : Nat) (l : List Int32) : Prop := RT h (zR h 1 1 19 p) l
/-- the letters of the reasons -/
def rsn : List Int32 := [105, 116, 102, 113, 120, 109, 98, 100]
def GS (h : zH) (sp : Nat) : Prop := zK h sp = (20, 0) ∧ zI h 20 0 1 sp = 0 ∧ zK h (zR h 20 0 0 sp) = (207, 0) ∧ zN h (zR h 20 0 0 sp) = 8 ∧ ∀ j, j < 8 → zI h 207 0 j (zR h 20 0 0 sp) = rsn.getD j 0
/-- flights of ends aren't under way -/
def GDa (h : zH) (el bq lq : List Nat) : Prop := ∀ q ∈ el, zR h 5 1 3 q ∉ bq ∧ zR h 5 1 3 q ∉ lq
def G9 (h : zH) (p e0 : Nat) (el : List Nat) (l : List (Nat → Int32)) : Prop := 0 ∈ el ∨ G9a h p e0 el l
def GD (h : zH) (el bq lq : List Nat) : Prop := 0 ∈ el ∨ GDa h el bq lq
def RK (h : zH) (p ic e0 sp : Nat) (A : AS) (bq lq pl el : List Nat) : Prop :=
  zWf h ∧ zK h p = (1, 1) ∧ G1 h p (aS A) ∧ G2 h p (aA A) ∧ G3 h p (aS A) ∧ G4 h p (aA A) ∧ G5 h p ic (aFree A) ∧ G6 h p lq ∧ G7 h p bq ∧ G8 h p (aAsk A) ∧ G9 h p e0 el (aEnd A) ∧ G10 h p e0 pl (aS A) (aA A) ∧ G11 h p (aRet A) ∧
  FQ h pl bq (aBuf A) ∧ FQ h pl lq (aLine A) ∧ (bq ++ lq).Nodup ∧ bq.length ≤ 16 ∧ lq.length ≤ 8 ∧ GD h el bq lq ∧ GS h sp
section KEEP
variable {mI mR mL : List (Nat × Nat)} {h h' : zH} {p ic e0 sp : Nat}
theorem G1.keep {s : Nat → Int32} (w : G1 h p s) (c : Cg mI mR mL h h') (d : d3 mI mR mL [(1, 1)] [] [(1, 1)] = true) : G1 h' p s := by
  obtain ⟨d1, d2, d4⟩ := d3_e d
  unfold G1
  rw [c.i (dj_n d1 (by simp)), c.l (dj_n d4 (by simp))]
  exact w
def F2 : List (Nat × Nat) := [(201, 11), (201, 12), (201, 13), (201, 19), (201, 21), (201, 22), (201, 30), (201, 31), (201, 33), (201, 34), (201, 41)]
theorem F2_in {k : Nat} (e : aln k ≠ 0) : (201, 10 + k) ∈ F2 := by
  have := aln_in e
  simp only [List.mem_cons, List.not_mem_nil, or_false] at this
  rcases this with rfl | rfl | rfl | rfl | rfl | rfl | rfl | rfl | rfl | rfl | rfl <;> decide
theorem G2.keep {a : Nat → Nat → Int32} (w : G2 h p a) (c : Cg mI mR mL h h') (d : d3 mI mR mL F2 [(1, 1)] [] = true) : G2 h' p a := by
  obtain ⟨d1, d2, d4⟩ := d3_e d
  intro k hk
  obtain ⟨w1, w2, w3⟩ := w k hk
  rw [c.r (dj_n d2 (by simp)), c.i (dj_n d1 (F2_in hk)), c.n w1 (by decide)]
  exact ⟨c.k w1 (by decide), w2, w3⟩
theorem G3.keep {s : Nat → Int32} (w : G3 h p s) (c : Cg mI mR mL h h') (d : d3 mI mR mL [(2, 1)] [(1, 1)] [] = true) : G3 h' p s := by
  obtain ⟨d1, d2, d4⟩ := d3_e d
  unfold G3
  rw [c.r (dj_n d2 (by simp)), c.i (dj_n d1 (by simp))]
  exact ⟨c.k w.1 (by decide), w.2⟩
theorem BS.keepg {r b : Nat} {f : Nat → Bool} (w : BS h r b f) (c : Cg mI mR mL h h') (e1 : (11, r) ∉ mI) (e2 : (11, r) ∉ mR) (e3 : (203, r) ∉ mL) : BS h' r b f := by
  obtain ⟨w1, w2, w3, w4, w5⟩ := w
  unfold BS
  rw [c.r e2, c.i e1, c.l e3, c.n w2 (by decide)]
  exact ⟨c.k w1 (by decide), c.k w2 (by decide), w3, w4, w5⟩
theorem G4.keep {a : Nat → Nat → Int32} (w : G4 h p a) (c : Cg mI mR mL h h') (d : d3 mI mR mL [(11, 51), (11, 56)] [(1, 1), (11, 51), (11, 56)] [(203, 51), (203, 56)] = true) : G4 h' p a := by
  obtain ⟨d1, d2, d4⟩ := d3_e d
  unfold G4
  rw [c.r (dj_n d2 (by simp) : (1, 1) ∉ mR)]
  exact ⟨w.1.keepg c (dj_n d1 (by simp)) (dj_n d2 (by simp)) (dj_n d4 (by simp)), w.2.keepg c (dj_n d1 (by simp)) (dj_n d2 (by simp)) (dj_n d4 (by simp))⟩
theorem AD.keepg {r d a : Nat} {xs : List Nat} (w : AD h r d xs a) (c : Cg mI mR mL h h') (e1 : (12, r) ∉ mI) (e2 : (12, r) ∉ mR) (e3 : (205, r) ∉ mR) : AD h' r d xs a := by
  obtain ⟨w1, w2, w3, w4, w5, w6, w7, w8⟩ := w
  unfold AD
  rw [c.r e2, c.i e1, c.r e3, c.n w2 (by decide)]
  exact ⟨c.k w1 (by decide), c.k w2 (by decide), w3, w4, w5, w6, w7, w8⟩
theorem LL.keepg {r l : Nat} {xs ns : List Nat} (w : LL h r l xs ns) (c : Cg mI mR mL h h') (e1 : (13, r) ∉ mI) (e2 : (13, r) ∉ mR) (e3 : (14, r) ∉ mR) : LL h' r l xs ns := by
  obtain ⟨w1, w2, w3, w4, w5, w6, w7, w8⟩ := w
  refine ⟨c.k w1 (by decide), w2, w3, w4, fun i hi => ?_, by rw [c.r e2]; exact w6, by rw [c.r e2]; exact w7, by rw [c.i e1]; exact w8⟩
  obtain ⟨b1, b0, b2, b3, b4⟩ := w5 i hi
  exact ⟨c.k b1 (by decide), b0, by rw [c.r e3]; exact b2, by rw [c.r e3]; exact b3, by rw [c.r e3]; exact b4⟩
theorem Cg.o (c : Cg mI mR mL h h') {x : Nat} (g : oka h x = true) : oka h' x = true := by
  rcases oka_e g with g | g
  · rw [g]; exact oka_0
  · have h0 : (zK h x).1 ≠ 0 := by
      intro e
      rw [e] at g
      exact absurd g (by decide)
    unfold oka
    rw [(c.2.2.1 x h0).1, Bool.or_eq_true]
    exact Or.inr (List.contains_iff_mem.mpr g)
theorem AL.keepg {r l : Nat} {xs : List Nat} (w : AL h e0 r l xs) (c : Cg mI mR mL h h') (e1 : (10, r) ∉ mI) (e2 : (10, r) ∉ mR) (e3 : (205, r) ∉ mR) : AL h' e0 r l xs := by
  obtain ⟨w1, w2, w3, k0, k1, w4⟩ := w
  unfold AL
  rw [c.r e2, c.i e1, c.r e3]
  refine ⟨c.k w1 (by decide), w2, w3, c.k k0 (by decide), by rw [c.n k0 (by decide)]; exact k1, ?_⟩
  rcases w4 with ⟨a1, a2⟩ | ⟨a1, a2, a3, a4, a5, a6, a7⟩
  · exact Or.inl ⟨a1, a2⟩
  · rw [c.n a1 (by decide)]
    exact Or.inr ⟨c.k a1 (by decide), a2, a3, a4, a5, a6, fun i hi => ⟨(a7 i hi).1, c.o (a7 i hi).2⟩⟩
theorem IC.keepg (w : IC h ic) (c : Cg mI mR mL h h') (e1 : (19, 0) ∉ mI) (e2 : (208, 0) ∉ mR) : IC h' ic := by
  obtain ⟨w1, w2, w3⟩ := w
  unfold IC
  rw [c.r e2, c.i e1, c.n w1 (by decide)]
  exact ⟨c.k w1 (by decide), w2, fun k hk => ⟨c.k (w3 k hk).1 (by decide), (w3 k hk).2⟩⟩
theorem bx_keep (c : Cg mI mR mL h h') (e2 : (208, 0) ∉ mR) : bx h' ic = bx h ic := by funext n; unfold bx; rw [c.r e2]
theorem G5.keep {l : List Int32} (w : G5 h p ic l) (c : Cg mI mR mL h h') (d : d3 mI mR mL [(12, 52), (19, 0)] [(1, 1), (12, 52), (205, 52), (208, 0)] [] = true) : G5 h' p ic l := by
  obtain ⟨d1, d2, d4⟩ := d3_e d
  obtain ⟨w1, w2, a, w3⟩ := w
  unfold G5
  rw [bx_keep c (dj_n d2 (by simp)), c.r (dj_n d2 (by simp) : (1, 1) ∉ mR)]
  exact ⟨w1.keepg c (dj_n d1 (by simp)) (dj_n d2 (by simp)), w2, a, w3.keepg c (dj_n d1 (by simp)) (dj_n d2 (by simp)) (dj_n d2 (by simp))⟩
theorem RT.keep {a : Nat} {l : List Int32} (w : RT h a l) (c : Cg mI mR mL h h') (e : (201, 29) ∉ mI) : RT h' a l := by
  obtain ⟨w1, w2, w3, w4⟩ := w
  unfold RT
  rw [c.n w1 (by decide), c.i e]
  exact ⟨c.k w1 (by decide), w2, w3, w4⟩
theorem FR.keep {pl : List Nat} {q : Nat} {f : FL} (w : FR h pl q f) (c : Cg mI mR mL h h') (d : d3 mI mR mL [(8, 1), (201, 29)] [(8, 1)] [(8, 1)] = true) : FR h' pl q f := by
  obtain ⟨d1, d2, d4⟩ := d3_e d
  obtain ⟨w1, w2, w3, w4, w5, w6, w7, w8⟩ := w
  unfold FR
  rw [c.r (dj_n d2 (by simp)), c.i (dj_n d1 (by simp)), c.l (dj_n d4 (by simp))]
  exact ⟨c.k w1 (by decide), w2, w3, w4, w5.keep c (dj_n d1 (by simp)), w6.keep c (dj_n d1 (by simp)), w7, w8.imp id fun z => ⟨z.1, c.k z.2.1 (by decide), z.2.2⟩⟩
theorem FQ.keep {pl qs : List Nat} {fs : List FL} (w : FQ h pl qs fs) (c : Cg mI mR mL h h') (d : d3 mI mR mL [(8, 1), (201, 29)] [(8, 1)] [(8, 1)] = true) : FQ h' pl qs fs := ⟨w.1, fun i hi => (w.2 i hi).keep c d⟩
theorem G6.keep {lq : List Nat} (w : G6 h p lq) (c : Cg mI mR mL h h') (d : d3 mI mR mL [(12, 53)] [(1, 1), (12, 53), (205, 53)] [] = true) : G6 h' p lq := by
  obtain ⟨d1, d2, d4⟩ := d3_e d
  obtain ⟨a, w⟩ := w
  unfold G6
  rw [c.r (dj_n d2 (by simp) : (1, 1) ∉ mR)]
  exact ⟨a, w.keepg c (dj_n d1 (by simp)) (dj_n d2 (by simp)) (dj_n d2 (by simp))⟩
theorem G7.keep {bq : List Nat} (w : G7 h p bq) (c : Cg mI mR mL h h') (d : d3 mI mR mL [(13, 54)] [(1, 1), (13, 54), (14, 54)] [] = true) : G7 h' p bq := by
  obtain ⟨d1, d2, d4⟩ := d3_e d
  obtain ⟨a, w⟩ := w
  unfold G7
  rw [c.r (dj_n d2 (by simp) : (1, 1) ∉ mR)]
  exact ⟨a, w.keepg c (dj_n d1 (by simp)) (dj_n d2 (by simp)) (dj_n d2 (by simp))⟩
theorem GQ.keep {bq : List Nat} (w : GQ h p bq) (c : Cg mI mR mL h h') (d : d3 mI mR mL [(13, 55), (8, 1)] [(1, 1), (13, 55), (14, 55)] [] = true) : GQ h' p bq := by
  obtain ⟨d1, d2, d4⟩ := d3_e d
  obtain ⟨a, w⟩ := w
  unfold GQ
  rw [c.r (dj_n d2 (by simp) : (1, 1) ∉ mR), c.i (dj_n d1 (by simp) : (8, 1) ∉ mI)]
  exact ⟨a, w.keepg c (dj_n d1 (by simp)) (dj_n d2 (by simp)) (dj_n d2 (by simp))⟩
theorem G8.keep {l : List (Int32 × Int32)} (w : G8 h p l) (c : Cg mI mR mL h h') (d : d3 mI mR mL [(13, 57), (7, 1)] [(1, 1), (13, 57), (14, 57)] [] = true) : G8 h' p l := by
  obtain ⟨d1, d2, d4⟩ := d3_e d
  obtain ⟨ql, ns, w, w2, w3⟩ := w
  unfold G8
  rw [c.r (dj_n d2 (by simp) : (1, 1) ∉ mR), c.i (dj_n d1 (by simp) : (7, 1) ∉ mI)]
  exact ⟨ql, ns, w.keepg c (dj_n d1 (by simp)) (dj_n d2 (by simp)) (dj_n d2 (by simp)), w2, fun i hi => ⟨c.k (w3 i hi).1 (by decide), (w3 i hi).2⟩⟩
theorem ER.keep {q : Nat} {e : Nat → Int32} (w : ER h q e) (c : Cg mI mR mL h h') (d : d3 mI mR mL [(5, 1), (8, 1)] [(5, 1)] [] = true) : ER h' q e := by
  obtain ⟨d1, d2, d4⟩ := d3_e d
  obtain ⟨w1, w2, w3, w4, w5⟩ := w
  unfold ER
  rw [c.r (dj_n d2 (by simp)), c.i (dj_n d1 (by simp) : (5, 1) ∉ mI), c.i (dj_n d1 (by simp) : (8, 1) ∉ mI)]
  exact ⟨c.k w1 (by decide), w2, w3, w4, w5.imp id fun z => ⟨z.1, c.k z.2.1 (by decide), z.2.2⟩⟩
theorem G9a.keep {el : List Nat} {l : List (Nat → Int32)} (w : G9a h p e0 el l) (c : Cg mI mR mL h h') (d : d3 mI mR mL [(10, 58), (5, 1), (8, 1)] [(1, 1), (10, 58), (205, 58), (5, 1)] [] = true) : G9a h' p e0 el l := by
  obtain ⟨d1, d2, d4⟩ := d3_e d
  obtain ⟨w1, w2, w3⟩ := w
  unfold G9a
  rw [c.r (dj_n d2 (by simp) : (1, 1) ∉ mR)]
  refine ⟨w1.keepg c (dj_n d1 (by simp)) (dj_n d2 (by simp)) (dj_n d2 (by simp)), w2, fun i hi => (w3 i hi).keep c ?_⟩
  unfold d3
  simp only [Bool.and_eq_true]
  exact ⟨List.all_eq_true.mpr fun x hx => by
    have h1 := fun e => dj_n d1 (x := x) e hx
    simp only [List.mem_cons, List.not_mem_nil, or_false] at h1
    simp only [Bool.not_eq_true', List.contains_eq_mem, List.mem_cons, List.not_mem_nil, or_false, decide_eq_false_iff_not]
    exact fun z => h1 (Or.inr z), List.all_eq_true.mpr fun x hx => by
    have h1 := fun e => dj_n d2 (x := x) e hx
    simp only [List.mem_cons, List.not_mem_nil, or_false] at h1
    simp only [Bool.not_eq_true', List.contains_eq_mem, List.mem_cons, List.not_mem_nil, or_false, decide_eq_false_iff_not]
    exact fun z => h1 (Or.inr (Or.inr (Or.inr z))), List.all_eq_true.mpr fun x hx => by simp⟩
theorem G10.keep {pl : List Nat} {s : Nat → Int32} {a : Nat → Nat → Int32} (w : G10 h p e0 pl s a) (c : Cg mI mR mL h h') (d : d3 mI mR mL [(10, 50), (4, 1)] [(1, 1), (10, 50), (205, 50)] [] = true) : G10 h' p e0 pl s a := by
  obtain ⟨d1, d2, d4⟩ := d3_e d
  obtain ⟨w1, w2, w3, w4⟩ := w
  unfold G10
  rw [c.r (dj_n d2 (by simp) : (1, 1) ∉ mR), c.i (dj_n d1 (by simp) : (4, 1) ∉ mI)]
  exact ⟨w1.keepg c (dj_n d1 (by simp)) (dj_n d2 (by simp)) (dj_n d2 (by simp)), w2, w3, fun i hi => ⟨c.k (w4 i hi).1 (by decide), (w4 i hi).2⟩⟩
theorem G11.keep {l : List Int32} (w : G11 h p l) (c : Cg mI mR mL h h') (d : d3 mI mR mL [(201, 29)] [(1, 1)] [] = true) : G11 h' p l := by
  obtain ⟨d1, d2, d4⟩ := d3_e d
  unfold G11
  rw [c.r (dj_n d2 (by simp) : (1, 1) ∉ mR)]
  exact RT.keep w c (dj_n d1 (by simp))
theorem GS.keep {sp : Nat} (w : GS h sp) (c : Cg mI mR mL h h') (d : d3 mI mR mL [(20, 0), (207, 0)] [(20, 0)] [] = true) : GS h' sp := by
  obtain ⟨d1, d2, d4⟩ := d3_e d
  obtain ⟨w1, w2, w3, w4, w5⟩ := w
  unfold GS
  rw [c.i (dj_n d1 (by simp) : (20, 0) ∉ mI), c.r (dj_n d2 (by simp) : (20, 0) ∉ mR), c.i (dj_n d1 (by simp) : (207, 0) ∉ mI), c.n w3 (by decide)]
  exact ⟨c.k w1 (by decide), w2, c.k w3 (by decide), w4, w5⟩
theorem GDa.keep {el bq lq : List Nat} (w : GDa h el bq lq) (c : Cg mI mR mL h h') (d : d3 mI mR mL [] [(5, 1)] [] = true) : GDa h' el bq lq := by
  obtain ⟨d1, d2, d4⟩ := d3_e d
  unfold GDa
  rw [c.r (dj_n d2 (by simp) : (5, 1) ∉ mR)]
  exact w
theorem G9.keep {el : List Nat} {l : List (Nat → Int32)} (w : G9 h p e0 el l) (c : Cg mI mR mL h h') (d : d3 mI mR mL [(10, 58), (5, 1), (8, 1)] [(1, 1), (10, 58), (205, 58), (5, 1)] [] = true) : G9 h' p e0 el l := w.imp id fun z => z.keep c d
theorem GD.keep {el bq lq : List Nat} (w : GD h el bq lq) (c : Cg mI mR mL h h') (d : d3 mI mR mL [] [(5, 1)] [] = true) : GD h' el bq lq := w.imp id fun z => z.keep c d
end KEEP

/-! THE REFERENCE'S STATE AS A VALUE: scalars and arrays by field number; rows of the buffer by their own number (mM: which row a place holds) -/
set_option maxRecDepth 100000
abbrev MS : Type := (Nat → Int32) × (Nat → Nat → Int32) × (Nat → Nat → Int32) × (Nat → Nat → Int32) × (Nat → Nat → Int32) × (Nat → Nat) × (Nat → Nat) × (Nat → Int32)
def mS (S : MS) : Nat → Int32 := S.1
def mA (S : MS) : Nat → Nat → Int32 := S.2.1
def mB (S : MS) : Nat → Nat → Int32 := S.2.2.1
def mL (S : MS) : Nat → Nat → Int32 := S.2.2.2.1
def mF (S : MS) : Nat → Nat → Int32 := S.2.2.2.2.1
def mM (S : MS) : Nat → Nat := S.2.2.2.2.2.1
def mE (S : MS) : Nat → Nat := S.2.2.2.2.2.2.1
/-- what the newest array of its own holds -/
def mT (S : MS) : Nat → Int32 := S.2.2.2.2.2.2.2
def tS (S : MS) (k : Nat) (v : Int32) : MS := (pu (mS S) k v, mA S, mB S, mL S, mF S, mM S, mE S, mT S)
def tA (S : MS) (k j : Nat) (v : Int32) : MS := (mS S, u2 (mA S) k j v, mB S, mL S, mF S, mM S, mE S, mT S)
def tB (S : MS) (r w : Nat) (v : Int32) : MS := (mS S, mA S, u2 (mB S) r w v, mL S, mF S, mM S, mE S, mT S)
def tL (S : MS) (l w : Nat) (v : Int32) : MS := (mS S, mA S, mB S, u2 (mL S) l w v, mF S, mM S, mE S, mT S)
def tF (S : MS) (e : Nat) (v : Nat → Int32) : MS := (mS S, mA S, mB S, mL S, pu (mF S) e v, mM S, pu (mE S) e 1, mT S)
def tM (S : MS) (j r : Nat) : MS := (mS S, mA S, mB S, mL S, mF S, pu (mM S) j r, mE S, mT S)
def tT (S : MS) (v : Nat → Int32) : MS := (mS S, mA S, mB S, mL S, mF S, mM S, mE S, v)
abbrev ix (x : Int32) : Nat := x.toNatClampNeg
/-- kinds and lengths of the array fields -/
def mty (k : Nat) : Nat := if k = 19 ∨ k = 31 then 202 else if k ≤ 4 ∨ (12 ≤ k ∧ k ≤ 18) ∨ k = 20 ∨ (28 ≤ k ∧ k ≤ 30) ∨ (32 ≤ k ∧ k ≤ 34) ∨ k = 43 ∨ k = 44 ∨ k = 47 ∨ k = 55 ∨ k = 56 then 201 else 0
def mln (k : Nat) : Nat := if k ≤ 4 ∨ k = 13 ∨ k = 15 ∨ k = 56 then 64 else if k = 12 ∨ k = 16 ∨ k = 17 ∨ k = 30 ∨ k = 47 ∨ k = 55 then 8 else if k = 14 ∨ k = 29 ∨ k = 31 then 16 else if 18 ≤ k ∧ k ≤ 20 then 24 else if k = 28 then 5 else if k = 32 then 4 else if k = 33 ∨ k = 34 then 2 else 2004
theorem mty_or (k : Nat) : mty k = 0 ∨ mty k = 201 ∨ mty k = 202 := by unfold mty; split <;> (try split) <;> simp
theorem mty_lt {k : Nat} (h : mty k ≠ 0) : k < 61 := by
  unfold mty at h
  split at h
  · omega
  · split at h
    · omega
    · exact absurd rfl h
abbrev MG : Type := (Nat → Nat) × (Nat → Nat) × (Nat → Nat)
/-- the reference p in the heap h: its arrays are g.1 k, the buffer's rows g.2.1 r, the line's rows g.2.2 l -/
def RepM (h : zH) (p : Nat) (g : MG) (S : MS) : Prop :=
  zK h p = (3, 100) ∧ (∀ k, zfk 3 k = 0 → zI h 3 100 k p = mS S k) ∧ (∀ k, zfk 3 k = 1 → zR h 3 100 k p = g.1 k) ∧
  (∀ k, mty k ≠ 0 → zK h (g.1 k) = (mty k, 100 + k) ∧ zN h (g.1 k) = mln k ∧ ∀ j, zI h (mty k) (100 + k) j (g.1 k) = mA S k j) ∧
  (zK h (g.1 22) = (206, 122) ∧ zN h (g.1 22) = 16 ∧ ∀ j, j < 16 → mM S j < 16 ∧ zR h 206 122 j (g.1 22) = g.2.1 (mM S j)) ∧
  (∀ r, r < 16 → zK h (g.2.1 r) = (201, 170) ∧ zN h (g.2.1 r) = 28 ∧ ∀ w, zI h 201 170 w (g.2.1 r) = mB S r w) ∧ (∀ r s, r < 16 → s < 16 → g.2.1 r = g.2.1 s → r = s) ∧
  (zK h (g.1 24) = (206, 124) ∧ zN h (g.1 24) = 8 ∧ ∀ j, j < 8 → zR h 206 124 j (g.1 24) = g.2.2 j) ∧
  (∀ r, r < 8 → zK h (g.2.2 r) = (201, 171) ∧ zN h (g.2.2 r) = 28 ∧ ∀ w, zI h 201 171 w (g.2.2 r) = mL S r w) ∧ (∀ r s, r < 8 → s < 8 → g.2.2 r = g.2.2 s → r = s) ∧
  (zK h (g.1 45) = (206, 145) ∧ zN h (g.1 45) = 2004 ∧ ∀ e, mE S e = 1 → zK h (zR h 206 145 e (g.1 45)) = (201, 173) ∧ zN h (zR h 206 145 e (g.1 45)) = 5 ∧ ∀ w, zI h 201 173 w (zR h 206 145 e (g.1 45)) = mF S e w)
/-- what isn't the reference's stays -/
def FrM (h0 h : zH) : Prop := zT h0 ≤ zT h ∧ (∀ q, (zK h0 q).1 ≠ 0 → zK h q = zK h0 q ∧ zN h q = zN h0 q) ∧ ∀ c r, r < 100 ∨ 200 ≤ r → zI h c r = zI h0 c r ∧ zR h c r = zR h0 c r ∧ zL h c r = zL h0 c r ∧ zD h c r = zD h0 c r
theorem FrM.rf {h : zH} : FrM h h := ⟨Nat.le_refl _, fun _ _ => ⟨rfl, rfl⟩, fun _ _ _ => ⟨rfl, rfl, rfl, rfl⟩⟩
theorem FrM.trans {h0 h1 h2 : zH} (a : FrM h0 h1) (b : FrM h1 h2) : FrM h0 h2 := ⟨Nat.le_trans a.1 b.1, fun q hq => by
  have h1 := a.2.1 q hq
  have h2 := b.2.1 q (by rw [h1.1]; exact hq)
  exact ⟨h2.1.trans h1.1, h2.2.trans h1.2⟩, fun c r hr => by
  obtain ⟨a1, a2, a3, a4⟩ := a.2.2 c r hr
  obtain ⟨b1, b2, b3, b4⟩ := b.2.2 c r hr
  exact ⟨b1.trans a1, b2.trans a2, b3.trans a3, b4.trans a4⟩⟩
theorem FrM.sI {h0 h : zH} (a : FrM h0 h) {c r f p : Nat} {x : Int32} (hr : 100 ≤ r ∧ r < 200) : FrM h0 (sI h c r f p x) := ⟨a.1, a.2.1, fun c' r' hr' => by
  obtain ⟨a1, a2, a3, a4⟩ := a.2.2 c' r' hr'
  exact ⟨by rw [zI_sI, if_neg (by omega)]; exact a1, a2, a3, a4⟩⟩
theorem FrM.sR {h0 h : zH} (a : FrM h0 h) {c r f p x : Nat} (hr : 100 ≤ r ∧ r < 200) : FrM h0 (sR h c r f p x) := ⟨a.1, a.2.1, fun c' r' hr' => by
  obtain ⟨a1, a2, a3, a4⟩ := a.2.2 c' r' hr'
  exact ⟨a1, by rw [zR_sR, if_neg (by omega)]; exact a2, a3, a4⟩⟩
theorem RepM.setS {h : zH} {p : Nat} {g : MG} {S : MS} (w : RepM h p g S) {k : Nat} {v : Int32} : RepM (sI h 3 100 k p v) p g (tS S k v) := by
  obtain ⟨w1, w2, w3, w4, w5, w6, w7, w8, w9, w10, w11, w12, w13⟩ := w
  have e : ∀ c r, c ≠ 3 → zI (sI h 3 100 k p v) c r = zI h c r := fun c r hc => by rw [zI_sI, if_neg (fun q => hc q.1)]
  refine ⟨w1, fun k' hk => ?_, w3, fun k' hk => ?_, w5, fun r hr => ?_, w7, w8, fun r hr => ?_, w10, w11, w12, fun e' he' => ?_⟩
  · rw [zI_sI, if_pos ⟨rfl, rfl⟩, u2_f]
    show _ = pu (mS S) k v k'
    by_cases q : k' = k
    · rw [if_pos q, pu_at, q, pu_at]
    · rw [if_neg q, pu_ne q]; exact w2 k' hk
  · rw [e _ _ (by have := mty_or k'; omega)]; exact w4 k' hk
  · rw [e _ _ (by decide)]; exact w6 r hr
  · rw [e _ _ (by decide)]; exact w9 r hr
  · rw [e _ _ (by decide)]; exact w13 e' he'
theorem RepM.setA {h : zH} {p : Nat} {g : MG} {S : MS} (w : RepM h p g S) {k j : Nat} {v : Int32} (hk0 : mty k ≠ 0) : RepM (sI h (mty k) (100 + k) j (g.1 k) v) p g (tA S k j v) := by
  obtain ⟨w1, w2, w3, w4, w5, w6, w7, w8, w9, w10, w11, w12, w13⟩ := w
  have hlt := mty_lt hk0
  have hor := mty_or k
  have e : ∀ c r, (c ≠ mty k ∨ r ≠ 100 + k) → zI (sI h (mty k) (100 + k) j (g.1 k) v) c r = zI h c r := fun c r hc => by rw [zI_sI, if_neg (fun q => by omega)]
  refine ⟨w1, fun k' hk => ?_, w3, fun k' hk => ?_, w5, fun r hr => ?_, w7, w8, fun r hr => ?_, w10, w11, w12, fun e' he' => ?_⟩
  · rw [e _ _ (Or.inl (by omega))]; exact w2 k' hk
  · obtain ⟨a1, a2, a3⟩ := w4 k' hk
    refine ⟨a1, a2, fun j' => ?_⟩
    show _ = u2 (mA S) k j v k' j'
    by_cases q : k' = k
    · subst q
      rw [zI_sI, if_pos ⟨rfl, rfl⟩]
      unfold u2
      by_cases q2 : j' = j
      · rw [if_pos ⟨q2, rfl⟩, if_pos ⟨rfl, q2⟩]
      · rw [if_neg (fun z => q2 z.1), if_neg (fun z => q2 z.2)]; exact a3 j'
    · rw [e _ _ (Or.inr (by omega))]
      unfold u2
      rw [if_neg (fun z => q z.1)]; exact a3 j'
  · rw [e _ _ (Or.inr (by omega))]; exact w6 r hr
  · rw [e _ _ (Or.inr (by omega))]; exact w9 r hr
  · rw [e _ _ (Or.inr (by omega))]; exact w13 e' he'
theorem RepM.setB {h : zH} {p : Nat} {g : MG} {S : MS} (w : RepM h p g S) {r f : Nat} {v : Int32} (hr0 : r < 16) : RepM (sI h 201 170 f (g.2.1 r) v) p g (tB S r f v) := by
  obtain ⟨w1, w2, w3, w4, w5, w6, w7, w8, w9, w10, w11, w12, w13⟩ := w
  have e : ∀ c s, (c ≠ 201 ∨ s ≠ 170) → zI (sI h 201 170 f (g.2.1 r) v) c s = zI h c s := fun c s hc => by rw [zI_sI, if_neg (fun q => by omega)]
  refine ⟨w1, fun k' hk => ?_, w3, fun k' hk => ?_, w5, fun s hs => ?_, w7, w8, fun s hs => ?_, w10, w11, w12, fun e' he' => ?_⟩
  · rw [e _ _ (Or.inl (by decide))]; exact w2 k' hk
  · have := mty_lt hk
    rw [e _ _ (Or.inr (by omega))]; exact w4 k' hk
  · obtain ⟨a1, a2, a3⟩ := w6 s hs
    refine ⟨a1, a2, fun j' => ?_⟩
    show _ = u2 (mB S) r f v s j'
    rw [zI_sI, if_pos ⟨rfl, rfl⟩]
    unfold u2
    by_cases q : s = r
    · subst q
      by_cases q2 : j' = f
      · rw [if_pos ⟨q2, rfl⟩, if_pos ⟨rfl, q2⟩]
      · rw [if_neg (fun z => q2 z.1), if_neg (fun z => q2 z.2)]; exact a3 j'
    · rw [if_neg (fun z => q (w7 s r hs hr0 z.2)), if_neg (fun z => q z.1)]; exact a3 j'
  · rw [e _ _ (Or.inr (by decide))]; exact w9 s hs
  · rw [e _ _ (Or.inr (by decide))]; exact w13 e' he'
theorem RepM.setL {h : zH} {p : Nat} {g : MG} {S : MS} (w : RepM h p g S) {r f : Nat} {v : Int32} (hr0 : r < 8) : RepM (sI h 201 171 f (g.2.2 r) v) p g (tL S r f v) := by
  obtain ⟨w1, w2, w3, w4, w5, w6, w7, w8, w9, w10, w11, w12, w13⟩ := w
  have e : ∀ c s, (c ≠ 201 ∨ s ≠ 171) → zI (sI h 201 171 f (g.2.2 r) v) c s = zI h c s := fun c s hc => by rw [zI_sI, if_neg (fun q => by omega)]
  refine ⟨w1, fun k' hk => ?_, w3, fun k' hk => ?_, w5, fun s hs => ?_, w7, w8, fun s hs => ?_, w10, w11, w12, fun e' he' => ?_⟩
  · rw [e _ _ (Or.inl (by decide))]; exact w2 k' hk
  · have := mty_lt hk
    rw [e _ _ (Or.inr (by omega))]; exact w4 k' hk
  · rw [e _ _ (Or.inr (by decide))]; exact w6 s hs
  · obtain ⟨a1, a2, a3⟩ := w9 s hs
    refine ⟨a1, a2, fun j' => ?_⟩
    show _ = u2 (mL S) r f v s j'
    rw [zI_sI, if_pos ⟨rfl, rfl⟩]
    unfold u2
    by_cases q : s = r
    · subst q
      by_cases q2 : j' = f
      · rw [if_pos ⟨q2, rfl⟩, if_pos ⟨rfl, q2⟩]
      · rw [if_neg (fun z => q2 z.1), if_neg (fun z => q2 z.2)]; exact a3 j'
    · rw [if_neg (fun z => q (w10 s r hs hr0 z.2)), if_neg (fun z => q z.1)]; exact a3 j'
  · rw [e _ _ (Or.inr (by decide))]; exact w13 e' he'
theorem RepM.setM {h : zH} {p : Nat} {g : MG} {S : MS} (w : RepM h p g S) {j r : Nat} (hr0 : r < 16) : RepM (sR h 206 122 j (g.1 22) (g.2.1 r)) p g (tM S j r) := by
  obtain ⟨w1, w2, w3, w4, w5, w6, w7, w8, w9, w10, w11, w12, w13⟩ := w
  have e : ∀ c s, (c ≠ 206 ∨ s ≠ 122) → zR (sR h 206 122 j (g.1 22) (g.2.1 r)) c s = zR h c s := fun c s hc => by rw [zR_sR, if_neg (fun q => by omega)]
  refine ⟨w1, w2, fun k' hk => ?_, w4, ⟨w5.1, w5.2.1, fun j' hj => ?_⟩, w6, w7, ⟨w8.1, w8.2.1, fun j' hj => ?_⟩, w9, w10, w11, w12, fun e' he' => ?_⟩
  · rw [e _ _ (Or.inl (by decide))]; exact w3 k' hk
  · obtain ⟨a1, a2⟩ := w5.2.2 j' hj
    show pu (mM S) j r j' < 16 ∧ _ = g.2.1 (pu (mM S) j r j')
    rw [zR_sR, if_pos ⟨rfl, rfl⟩]
    by_cases q : j' = j
    · subst q
      rw [pu_at]
      unfold u2
      rw [if_pos ⟨rfl, rfl⟩]; exact ⟨hr0, rfl⟩
    · rw [pu_ne q]
      unfold u2
      rw [if_neg (fun z => q z.1)]; exact ⟨a1, a2⟩
  · rw [e _ _ (Or.inr (by decide))]; exact w8.2.2 j' hj
  · rw [e _ _ (Or.inr (by decide))]; exact w13 e' he'
/-- the same by another name -/
abbrev nwx := nw
theorem FrM.nw {h0 h : zH} (a : FrM h0 h) (w : zWf h) {c r n : Nat} (hr : 100 ≤ r ∧ r < 200) : FrM h0 (nw h c r n) := ⟨Nat.le_succ_of_le a.1, fun q hq => by
  obtain ⟨b1, b2⟩ := a.2.1 q hq
  have b3 : (zK h q).1 ≠ 0 := by rw [b1]; exact hq
  exact ⟨by rw [nw_K w rfl b3]; exact b1, by rw [nw_N w rfl b3]; exact b2⟩, fun c' r' hr' => by
  obtain ⟨a1, a2, a3, a4⟩ := a.2.2 c' r' hr'
  refine ⟨by rw [zI_nw, if_neg (by omega)]; exact a1, by rw [zR_nw, if_neg (by omega)]; exact a2, by rw [zL_nw, if_neg (by omega)]; exact a3, ?_⟩
  have e : zD (nwx h c r n) c' r' = zD h c' r' := (n4_cr _ _ _ _ _ _ _).trans (if_neg (by omega))
  rw [e]; exact a4⟩
/-- a new array of the reference's own -/
theorem RepM.nw {h : zH} {p : Nat} {g : MG} {S : MS} (w : RepM h p g S) (hw : zWf h) {n : Nat} : RepM (nw h 201 173 n) p g S := by
  obtain ⟨w1, w2, w3, w4, w5, w6, w7, w8, w9, w10, w11, w12, w13⟩ := w
  have eI : ∀ c r, r ≠ 173 → zI (nwx h 201 173 n) c r = zI h c r := fun c r hc => by rw [zI_nw, if_neg (fun q => hc q.2)]
  have eR : ∀ c r, r ≠ 173 → zR (nwx h 201 173 n) c r = zR h c r := fun c r hc => by rw [zR_nw, if_neg (fun q => hc q.2)]
  refine ⟨nw_K hw w1 (by decide), fun k hk => ?_, fun k hk => ?_, fun k hk => ?_, ⟨nw_K hw w5.1 (by decide), (nw_N hw w5.1 (by decide)).trans w5.2.1, fun j hj => ?_⟩, fun r hr => ?_, w7, ⟨nw_K hw w8.1 (by decide), (nw_N hw w8.1 (by decide)).trans w8.2.1, fun j hj => ?_⟩, fun r hr => ?_, w10, nw_K hw w11 (by decide), (nw_N hw w11 (by decide)).trans w12, fun e he => ?_⟩
  · rw [eI _ _ (by decide)]; exact w2 k hk
  · rw [eR _ _ (by decide)]; exact w3 k hk
  · obtain ⟨a1, a2, a3⟩ := w4 k hk
    have := mty_lt hk
    exact ⟨nw_K hw a1 hk, (nw_N hw a1 hk).trans a2, fun j => by rw [eI _ _ (by omega)]; exact a3 j⟩
  · rw [eR _ _ (by decide)]; exact w5.2.2 j hj
  · obtain ⟨a1, a2, a3⟩ := w6 r hr
    exact ⟨nw_K hw a1 (by decide), (nw_N hw a1 (by decide)).trans a2, fun j => by rw [eI _ _ (by decide)]; exact a3 j⟩
  · rw [eR _ _ (by decide)]; exact w8.2.2 j hj
  · obtain ⟨a1, a2, a3⟩ := w9 r hr
    exact ⟨nw_K hw a1 (by decide), (nw_N hw a1 (by decide)).trans a2, fun j => by rw [eI _ _ (by decide)]; exact a3 j⟩
  · obtain ⟨a1, a2, a3⟩ := w13 e he
    rw [eR _ _ (by decide)]
    refine ⟨nw_K hw a1 (by decide), (nw_N hw a1 (by decide)).trans a2, fun j => ?_⟩
    rw [zI_nw, if_pos ⟨rfl, rfl⟩, n2_f, pu_ne (nw_ne hw a1 (by decide))]; exact a3 j
/-- the newest array of its own -/
def Tq (h : zH) (g : MG) (q : Nat) (S : MS) : Prop := zK h q = (201, 173) ∧ zN h q ≤ 5 ∧ (∀ j, zI h 201 173 j q = mT S j) ∧ ∀ e, mE S e = 1 → zR h 206 145 e (g.1 45) ≠ q
abbrev Tn (h : zH) (q n : Nat) : Prop := zN h q = n
abbrev IM (h0 : zH) (p : Nat) (g : MG) (q n : Nat) (S : MS) : zH → Prop := fun h => RepM h p g S ∧ FrM h0 h ∧ (q ≠ 0 → Tq h g q S ∧ zN h q = n)
theorem Tq.keep {h h' : zH} {g : MG} {q n : Nat} {S S' : MS} (w : q ≠ 0 → Tq h g q S ∧ zN h q = n) (e1 : zK h' q = zK h q) (e2 : zN h' q = zN h q) (e3 : zI h' 201 173 = zI h 201 173) (e4 : zR h' 206 145 = zR h 206 145) (e5 : mT S' = mT S) (e6 : mE S' = mE S) : q ≠ 0 → Tq h' g q S' ∧ zN h' q = n := fun hq => by
  obtain ⟨⟨a1, a2, a3, a4⟩, a5⟩ := w hq
  exact ⟨⟨by rw [e1]; exact a1, by rw [e2]; exact a2, by rw [e3, e5]; exact a3, by rw [e4, e6]; exact a4⟩, by rw [e2]; exact a5⟩
/-! guards and names in the functions that say what a method does -/
def gd {α : Type} (c : Bool) (k : Option α) : Option α := if c = true then k else none
def lt {α β : Type} (x : α) (f : α → Option β) : Option β := f x
def bd {α β : Type} (x : Option α) (f : α → Option β) : Option β := match x with
  | some y => f y
  | none => none
theorem gd_e {α : Type} {c : Bool} {k : Option α} {r : α} (h : gd c k = some r) : c = true ∧ k = some r := by
  unfold gd at h; split at h
  · rename_i hc; exact ⟨hc, h⟩
  · exact absurd h (by simp)
theorem lt_e {α β : Type} {x : α} {f : α → Option β} {r : β} (h : lt x f = some r) : ∃ y, y = x ∧ f y = some r := ⟨x, rfl, h⟩
theorem bd_e {α β : Type} {x : Option α} {f : α → Option β} {r : β} (h : bd x f = some r) : ∃ y, x = some y ∧ f y = some r := by
  cases x with
  | none => exact absurd h (by simp [bd])
  | some y => exact ⟨y, rfl, h⟩
theorem if_e1 {α : Type} {c : Prop} [Decidable c] {a b : Option α} {r : α} (h : (if c then a else b) = some r) (hc : c) : a = some r := by rw [if_pos hc] at h; exact h
theorem if_e2 {α : Type} {c : Prop} [Decidable c] {a b : Option α} {r : α} (h : (if c then a else b) = some r) (hc : ¬ c) : b = some r := by rw [if_neg hc] at h; exact h
theorem no_e {α : Type} {r : α} {P : Prop} (h : (none : Option α) = some r) : P := by cases h
theorem so_e {α : Type} {a r : α} (h : some a = some r) : a = r := Option.some.inj h
def inb (i : Int32) (n : Nat) : Bool := decide (¬ (i < 0 ∨ n ≤ i.toNatClampNeg))
def nz (i : Int32) : Bool := decide (¬ i = 0)
def b01 (i : Int32) : Bool := decide (i = 0 ∨ i = 1)
def chr (i : Int32) : Bool := decide (narrow .char (.int i) = .int i)
theorem inb_e {i : Int32} {n : Nat} (h : inb i n = true) : vp_in i n := by unfold inb at h; exact (of_decide_eq_true h : ¬ (i < 0 ∨ n ≤ i.toNatClampNeg))
theorem inb_lt {i : Int32} {n : Nat} (h : inb i n = true) : ix i < n := Nat.not_le.mp fun q => inb_e h (Or.inr q)
theorem nz_e {i : Int32} (h : nz i = true) : ¬ i = 0 := of_decide_eq_true h
theorem b01_e {i : Int32} (h : b01 i = true) : narrow .boolean (.int i) = .int i ∧ fits .boolean (.int i) = true := zz_bool (of_decide_eq_true h)
theorem chr_e {i : Int32} (h : chr i = true) : narrow .char (.int i) = .int i := of_decide_eq_true h
def irm (x y : Int32) : Int32 := x - x / y * y
def imn (x y : Int32) : Int32 := if y < x then y else x
def imx (x y : Int32) : Int32 := if x < y then y else x
def zsub (L' L : List (Option Value)) : Prop := ∀ (i : Nat) (v : Value), L'[i]? = some (some v) → L[i]? = some (some v)
theorem zl_0 : zsub [] [] := fun _ _ h => h
theorem zl_n {x : Option Value} {L' L : List (Option Value)} (w : zsub L' L) : zsub (none :: L') (x :: L) := fun i v h => by
  cases i with
  | zero => simp at h
  | succ i => rw [List.getElem?_cons_succ] at h ⊢; exact w i v h
theorem zl_s {x : Option Value} {L' L : List (Option Value)} (w : zsub L' L) : zsub (x :: L') (x :: L) := fun i v h => by
  cases i with
  | zero => exact h
  | succ i => rw [List.getElem?_cons_succ] at h ⊢; exact w i v h
/-- a table of jumps, one after the other -/
def tsw (lo : Int) (d : Int) (x : Int) : List Int → Int
  | [] => d
  | o :: t => if x = lo then o else tsw (lo + 1) d x t
theorem tsw_out {d x : Int} : ∀ (l : List Int) (lo : Int), (x < lo ∨ lo + l.length ≤ x) → tsw lo d x l = d
  | [], _, _ => rfl
  | o :: t, lo, h => by
    have h2 : lo + (t.length + 1) ≤ x ∨ x < lo := by
      rcases h with h | h
      · exact Or.inr h
      · exact Or.inl (by simpa using h)
    rw [tsw, if_neg (by omega)]
    exact tsw_out t (lo + 1) (by omega)
theorem tsw_in {d x : Int} : ∀ (l : List Int) (lo : Int) (j : Nat) (o : Int), l[j]? = some o → x = lo + j → tsw lo d x l = o
  | [], _, j, o, h, _ => by simp at h
  | a :: t, lo, 0, o, h, e => by
    simp at h
    rw [tsw, if_pos (by omega), h]
  | a :: t, lo, j + 1, o, h, e => by
    rw [List.getElem?_cons_succ] at h
    rw [tsw, if_neg (by omega)]
    exact tsw_in t (lo + 1) j o h (by omega)
theorem tsw_z {lo d x : Int} : tsw lo d x [] = d := rfl
theorem tsw_c {lo d x o : Int} {t : List Int} (n : x ≠ lo) (r : tsw (lo + 1) d x t = d) : tsw lo d x (o :: t) = d := by rw [tsw, if_neg n]; exact r
theorem tsw_s {lo d x : Int} {t : List Int} (r : tsw (lo + 1) d x t = d) : tsw lo d x (d :: t) = d := by
  rw [tsw]; split
  · rfl
  · exact r
theorem ts_ne {x v : Int32} {k : Int} (hv : v.toInt = k) (c : ¬ x = v) : x.toInt ≠ k := fun e => c (Int32.toInt.inj (by rw [e, hv]))
theorem ts_at {x v : Int32} {lo d off : Int} {l : List Int} (c : x = v) (e : tsw lo d v.toInt l = off) : tsw lo d x.toInt l = off := by rw [c]; exact e
def fdg (x y : UInt32) : Bool := decide (FP.fdiv x y &&& 0x7fffffff ≤ 0x7f800000)
theorem fdg_e {x y : UInt32} (h : fdg x y = true) : vf_n32 (FP.fdiv x y) := by unfold fdg at h; exact (of_decide_eq_true h : FP.fdiv x y &&& 0x7fffffff ≤ 0x7f800000)
theorem zc2_ref {L : List (Option Value)} {i p : Nat} (h : L[i]? = some (some (zrf p))) : zc2 L i = false := by
  unfold zc2; rw [h]; simp only [zrf_cat]; rfl
theorem zarg_r (p : Nat) (t : List Value) : zargs (zrf p :: t) = some (zrf p) :: zargs t := by cases p <;> rfl
theorem zarg_i (x : Int32) (t : List Value) : zargs (.int x :: t) = some (.int x) :: zargs t := rfl
theorem zarg_l (x : Int64) (t : List Value) : zargs (.long x :: t) = some (.long x) :: none :: zargs t := rfl
theorem zarg_0 : zargs [] = [] := rfl
theorem zarg_len : ∀ vs : List Value, (lg_sl vs).length = (zargs vs).length
  | [] => rfl
  | v :: t => by
    have h := zarg_len t
    unfold zargs
    unfold lg_sl at h ⊢
    rw [List.flatMap_cons, List.length_append, h]
    by_cases hc : v.category = 2
    · rw [if_pos hc, if_pos hc]; simp; omega
    · rw [if_neg hc, if_neg hc]; simp; omega
theorem zCo.st {G : zG} {y : MethodName} {cc : ByteArray} {maxL : Nat} {ret : Option FieldType} {fr mc ms : Nat} {args : List Value} {h : zH} {Post : Option Value → zH → Prop} {XP : String → zH → Prop} (L0 : List (Option Value)) (hy : plainName y.cls = true) (hlen : L0.length = maxL) (hL0 : zargs args ++ List.replicate (maxL - (zargs args).length) none = L0)
    (body : ∀ X : zX, zOk G X cc y.cls maxL fr (64 * fr) mc ms → zFin G X Post XP mc ms ret → (Xt X).name = y.name → zWf h → zW G X h 0 0 0 L0 []) : zCo G y cc maxL ret fr mc ms args h Post XP :=
  zCo.of L0 hy (Nat.ble_eq_true_of_le (by rw [zarg_len, ← hlen, ← hL0, List.length_append]; omega)) hL0 body
section ZT
variable {G : zG} {X : zX} {cc : ByteArray} {own : String} {nL fr lo mc ms cl sl pc : Nat} {h : zH} {L : List (Option Value)} {st : List Value}
theorem zs_table (o : zOk G X cc own nL fr lo mc ms) {dflt lo' hi off : Int} {offs : Array Int} {l : List Int} {len : Nat} {x : Int32} {tgt : Nat} (hdg : decode cc pc = .ok (.tableswitch dflt lo' hi offs, len)) (hl : offs.toList = l) (hsz : (l.length : Int) = hi - lo' + 1) (ho : tsw lo' dflt x.toInt l = off) (ht : (pc : Int) + off = (tgt : Int)) (k : zW G X h cl sl tgt L st) : zW G X h cl sl pc L (.int x :: st) := by
  by_cases h9 : x.toInt < lo' ∨ hi < x.toInt
  · rw [tsw_out _ _ (by omega)] at ho
    rw [← ho] at ht
    exact zs_tableOut o hdg h9 ht k
  · have hj : (x.toInt - lo').toNat < l.length := by omega
    have e1 : l[(x.toInt - lo').toNat]? = some l[(x.toInt - lo').toNat] := List.getElem?_eq_getElem hj
    have e2 := tsw_in (d := dflt) (x := x.toInt) l lo' _ _ e1 (by omega)
    rw [e2] at ho
    refine zs_tableIn o hdg (fun q => h9 (Or.inl q)) (fun q => h9 (Or.inr q)) (off := off) ?_ ht k
    rw [← ho, ← e1, ← hl, Array.getElem?_toList]
theorem zs_ldcw (o : zOk G X cc own nL fr lo mc ms) {index : Nat} {v : Int32} (hconst : (Cond.constant own index v) ∈ lw_all) (hdg : decode cc pc = .ok (.ldc_w index, 3)) (k : zW G X h cl sl (pc + 3) L (.int v :: st)) : zW G X h cl sl pc L st :=
  fun H locs ls hR hl hL => lv_ldcw o.x o.b o.ow (o.w _ hconst) hdg (k H locs ls hR hl hL)
end ZT
section ZM
variable {h0 : zH} {p q n : Nat} {g : MG} {S S' : MS} {G : zG} {X : zX} {cc : ByteArray} {own : String} {nL fr lo mc ms cl sl pc : Nat} {L : List (Option Value)} {st : List Value}
theorem zQ.fg {I : zH → Prop} {L' : List (Option Value)} (e : zsub L' L) (k : zQ I G X cl sl pc L' st) : zQ I G X cl sl pc L st := fun h hI hw => zforget (k h hI hw) e
theorem zQ.nmi {I : zH → Prop} {x y : Int32} (e : y = x) (k : zQ I G X cl sl pc L (.int y :: st)) : zQ I G X cl sl pc L (.int x :: st) := by rw [← e]; exact k
theorem zQ.nml {I : zH → Prop} {x y : Int64} (e : y = x) (k : zQ I G X cl sl pc L (.long y :: st)) : zQ I G X cl sl pc L (.long x :: st) := by rw [← e]; exact k
theorem zQ.wd {I : zH → Prop} (k n : Nat) (h1 : cl ≤ k) (h2 : sl ≤ n) (w : zQ I G X k n pc L st) : zQ I G X cl sl pc L st := fun h hI hw => zwiden k n h1 h2 (w h hI hw)
theorem zm_getI (o : zOk G X cc own nL fr lo mc ms) {index k : Nat} (fl : zFL own index 3 k) (hf : zfk 3 k = 0) (hd : decode cc pc = .ok (.getfield index, 3)) (kk : zQ (IM h0 p g q n S) G X cl sl (pc + 3) L (.int (mS S k) :: st)) : zQ (IM h0 p g q n S) G X cl sl pc L (zrf p :: st) := fun h hI hw => by
  refine zs_getI o fl hf hd hI.1.1 ?_
  rw [hI.1.2.1 k hf]; exact kk h hI hw
theorem zm_getR (o : zOk G X cc own nL fr lo mc ms) {index k : Nat} (fl : zFL own index 3 k) (hf : zfk 3 k = 1) (hd : decode cc pc = .ok (.getfield index, 3)) (kk : zQ (IM h0 p g q n S) G X cl sl (pc + 3) L (zrf (g.1 k) :: st)) : zQ (IM h0 p g q n S) G X cl sl pc L (zrf p :: st) := fun h hI hw => by
  refine zs_getR o fl hf hd hI.1.1 ?_
  rw [hI.1.2.2.1 k hf]; exact kk h hI hw
theorem zm_putI (o : zOk G X cc own nL fr lo mc ms) {index k : Nat} {x : Int32} (fl : zFL own index 3 k) (hf : zfk 3 k = 0) (hfin : ((zq 3).2.1 k).2.2.2 = false) (hn : narrow (zty 3 k) (.int x) = .int x ∧ fits (zty 3 k) (.int x) = true) (hd : decode cc pc = .ok (.putfield index, 3)) (e : S' = tS S k x) (kk : zQ (IM h0 p g q n S') G X cl sl (pc + 3) L st) : zQ (IM h0 p g q n S) G X cl sl pc L (.int x :: zrf p :: st) := fun h hI hw =>
  zs_putI o fl hf hfin hn hd hI.1.1 (by decide) (kk _ (by rw [e]; exact ⟨hI.1.setS, hI.2.1.sI (by decide), Tq.keep hI.2.2 rfl rfl (by rw [zI_sI, if_neg (by decide)]) rfl rfl rfl⟩) hw)
theorem zm_iald (o : zOk G X cc own nL fr lo mc ms) {k : Nat} {i : Int32} (ht : mty k = 201) (hd : decode cc pc = .ok (.iaload, 1)) (hi : inb i (mln k) = true) (kk : zQ (IM h0 p g q n S) G X cl sl (pc + 1) L (.int (mA S k (ix i)) :: st)) : zQ (IM h0 p g q n S) G X cl sl pc L (.int i :: zrf (g.1 k) :: st) := fun h hI hw => by
  obtain ⟨a1, a2, a3⟩ := hI.1.2.2.2.1 k (by rw [ht]; decide)
  rw [ht] at a1 a3
  refine zs_iaload o hd a1 (by rw [a2]; exact inb_e hi) ?_
  rw [a3]; exact kk h hI hw
theorem zm_bald (o : zOk G X cc own nL fr lo mc ms) {k : Nat} {i : Int32} (ht : mty k = 202) (hd : decode cc pc = .ok (.baload, 1)) (hi : inb i (mln k) = true) (kk : zQ (IM h0 p g q n S) G X cl sl (pc + 1) L (.int (mA S k (ix i)) :: st)) : zQ (IM h0 p g q n S) G X cl sl pc L (.int i :: zrf (g.1 k) :: st) := fun h hI hw => by
  obtain ⟨a1, a2, a3⟩ := hI.1.2.2.2.1 k (by rw [ht]; decide)
  rw [ht] at a1 a3
  refine zs_baload o hd a1 (by rw [a2]; exact inb_e hi) ?_
  rw [a3]; exact kk h hI hw
theorem zm_iast (o : zOk G X cc own nL fr lo mc ms) {k : Nat} {i x : Int32} (ht : mty k = 201) (hd : decode cc pc = .ok (.iastore, 1)) (hi : inb i (mln k) = true) (e : S' = tA S k (ix i) x) (kk : zQ (IM h0 p g q n S') G X cl sl (pc + 1) L st) : zQ (IM h0 p g q n S) G X cl sl pc L (.int x :: .int i :: zrf (g.1 k) :: st) := fun h hI hw => by
  have h0' : mty k ≠ 0 := by rw [ht]; decide
  obtain ⟨a1, a2, a3⟩ := hI.1.2.2.2.1 k h0'
  have hlt := mty_lt h0'
  have e2 := hI.1.setA (j := ix i) (v := x) h0'
  rw [ht] at a1 e2
  exact zs_iastore o hd a1 (by omega) (by rw [a2]; exact inb_e hi) (kk _ (by rw [e]; exact ⟨e2, hI.2.1.sI (by omega), Tq.keep hI.2.2 rfl rfl (by rw [zI_sI, if_neg (by omega)]) rfl rfl rfl⟩) hw)
theorem zm_bast (o : zOk G X cc own nL fr lo mc ms) {k : Nat} {i x : Int32} (ht : mty k = 202) (hx : narrow .boolean (.int x) = .int x ∧ fits .boolean (.int x) = true) (hd : decode cc pc = .ok (.bastore, 1)) (hi : inb i (mln k) = true) (e : S' = tA S k (ix i) x) (kk : zQ (IM h0 p g q n S') G X cl sl (pc + 1) L st) : zQ (IM h0 p g q n S) G X cl sl pc L (.int x :: .int i :: zrf (g.1 k) :: st) := fun h hI hw => by
  have h0' : mty k ≠ 0 := by rw [ht]; decide
  obtain ⟨a1, a2, a3⟩ := hI.1.2.2.2.1 k h0'
  have hlt := mty_lt h0'
  have e2 := hI.1.setA (j := ix i) (v := x) h0'
  rw [ht] at a1 e2
  exact zs_bastore o hx.1 hd a1 (by omega) (by rw [a2]; exact inb_e hi) (kk _ (by rw [e]; exact ⟨e2, hI.2.1.sI (by omega), Tq.keep hI.2.2 rfl rfl (by rw [zI_sI, if_neg (by omega)]) rfl rfl rfl⟩) hw)
/-- the row at a place of the buffer -/
theorem zm_row (o : zOk G X cc own nL fr lo mc ms) {i : Int32} {r : Nat} (hd : decode cc pc = .ok (.aaload, 1)) (hi : inb i 16 = true) (e : r = mM S (ix i)) (kk : r < 16 → zQ (IM h0 p g q n S) G X cl sl (pc + 1) L (zrf (g.2.1 r) :: st)) : zQ (IM h0 p g q n S) G X cl sl pc L (.int i :: zrf (g.1 22) :: st) := fun h hI hw => by
  obtain ⟨a1, a2, a3⟩ := hI.1.2.2.2.2.1
  refine zs_aaload o (Or.inr (Or.inl rfl)) hd a1 (by rw [a2]; exact inb_e hi) ?_
  rw [(a3 _ (inb_lt hi)).2, ← e]; exact kk (by rw [e]; exact (a3 _ (inb_lt hi)).1) h hI hw
theorem zm_lrow (o : zOk G X cc own nL fr lo mc ms) {i : Int32} {r : Nat} (hd : decode cc pc = .ok (.aaload, 1)) (hi : inb i 8 = true) (e : r = ix i) (kk : r < 8 → zQ (IM h0 p g q n S) G X cl sl (pc + 1) L (zrf (g.2.2 r) :: st)) : zQ (IM h0 p g q n S) G X cl sl pc L (.int i :: zrf (g.1 24) :: st) := fun h hI hw => by
  obtain ⟨a1, a2, a3⟩ := hI.1.2.2.2.2.2.2.2.1
  refine zs_aaload o (Or.inr (Or.inl rfl)) hd a1 (by rw [a2]; exact inb_e hi) ?_
  rw [a3 _ (inb_lt hi), ← e]; exact kk (by rw [e]; exact inb_lt hi) h hI hw
theorem zm_rald (o : zOk G X cc own nL fr lo mc ms) {r : Nat} {i : Int32} (hr : r < 16) (hd : decode cc pc = .ok (.iaload, 1)) (hi : inb i 28 = true) (kk : zQ (IM h0 p g q n S) G X cl sl (pc + 1) L (.int (mB S r (ix i)) :: st)) : zQ (IM h0 p g q n S) G X cl sl pc L (.int i :: zrf (g.2.1 r) :: st) := fun h hI hw => by
  obtain ⟨a1, a2, a3⟩ := hI.1.2.2.2.2.2.1 r hr
  refine zs_iaload o hd a1 (by rw [a2]; exact inb_e hi) ?_
  rw [a3]; exact kk h hI hw
theorem zm_rast (o : zOk G X cc own nL fr lo mc ms) {r : Nat} {i x : Int32} (hr : r < 16) (hd : decode cc pc = .ok (.iastore, 1)) (hi : inb i 28 = true) (e : S' = tB S r (ix i) x) (kk : zQ (IM h0 p g q n S') G X cl sl (pc + 1) L st) : zQ (IM h0 p g q n S) G X cl sl pc L (.int x :: .int i :: zrf (g.2.1 r) :: st) := fun h hI hw => by
  obtain ⟨a1, a2, a3⟩ := hI.1.2.2.2.2.2.1 r hr
  exact zs_iastore o hd a1 (by decide) (by rw [a2]; exact inb_e hi) (kk _ (by rw [e]; exact ⟨hI.1.setB hr, hI.2.1.sI (by decide), Tq.keep hI.2.2 rfl rfl (by rw [zI_sI, if_neg (by decide)]) rfl rfl rfl⟩) hw)
theorem zm_lald (o : zOk G X cc own nL fr lo mc ms) {r : Nat} {i : Int32} (hr : r < 8) (hd : decode cc pc = .ok (.iaload, 1)) (hi : inb i 28 = true) (kk : zQ (IM h0 p g q n S) G X cl sl (pc + 1) L (.int (mL S r (ix i)) :: st)) : zQ (IM h0 p g q n S) G X cl sl pc L (.int i :: zrf (g.2.2 r) :: st) := fun h hI hw => by
  obtain ⟨a1, a2, a3⟩ := hI.1.2.2.2.2.2.2.2.2.1 r hr
  refine zs_iaload o hd a1 (by rw [a2]; exact inb_e hi) ?_
  rw [a3]; exact kk h hI hw
theorem zm_last (o : zOk G X cc own nL fr lo mc ms) {r : Nat} {i x : Int32} (hr : r < 8) (hd : decode cc pc = .ok (.iastore, 1)) (hi : inb i 28 = true) (e : S' = tL S r (ix i) x) (kk : zQ (IM h0 p g q n S') G X cl sl (pc + 1) L st) : zQ (IM h0 p g q n S) G X cl sl pc L (.int x :: .int i :: zrf (g.2.2 r) :: st) := fun h hI hw => by
  obtain ⟨a1, a2, a3⟩ := hI.1.2.2.2.2.2.2.2.2.1 r hr
  exact zs_iastore o hd a1 (by decide) (by rw [a2]; exact inb_e hi) (kk _ (by rw [e]; exact ⟨hI.1.setL hr, hI.2.1.sI (by decide), Tq.keep hI.2.2 rfl rfl (by rw [zI_sI, if_neg (by decide)]) rfl rfl rfl⟩) hw)
theorem zm_mast (o : zOk G X cc own nL fr lo mc ms) {r : Nat} {i : Int32} (hr : r < 16) (hd : decode cc pc = .ok (.aastore, 1)) (hi : inb i 16 = true) (e : S' = tM S (ix i) r) (kk : zQ (IM h0 p g q n S') G X cl sl (pc + 1) L st) : zQ (IM h0 p g q n S) G X cl sl pc L (zrf (g.2.1 r) :: .int i :: zrf (g.1 22) :: st) := fun h hI hw => by
  obtain ⟨a1, a2, a3⟩ := hI.1.2.2.2.2.1
  exact zs_aastoreI o hd a1 (by decide) (by rw [a2]; exact inb_e hi) (hI.1.2.2.2.2.2.1 r hr).1 (kk _ (by rw [e]; exact ⟨hI.1.setM hr, hI.2.1.sR (by decide), Tq.keep hI.2.2 rfl rfl rfl (by rw [zR_sR, if_neg (by decide)]) rfl rfl⟩) hw)
/-- a new array of its own -/
theorem zm_newq (o : zOk G X cc own nL fr lo mc ms) {N : Nat} {x : Int32} (hn : ¬ x < 0) (hN : x.toNatClampNeg = N) (hb : N ≤ 5) (hd : decode cc pc = .ok (.newarray .int, 2)) (hc : cl + 1 ≤ mc) (hs : sl + N ≤ ms) (e : S' = tT S (fun _ => 0)) (kk : ∀ q, q ≠ 0 → zQ (IM h0 p g q N S') G X (cl + 1) (sl + N) (pc + 2) L (zrf q :: st)) : zQ (IM h0 p g 0 n S) G X cl sl pc L (.int x :: st) := fun h hI hw => by
  refine zs_newarr (c := 201) (r := 173) o (by decide) rfl q222 hn hN (by omega) hd hc hs ?_
  refine kk (zT h + 1) (by omega) _ ?_ (zWf_nw hw)
  rw [e]
  have e1 : RepM (nwx h 201 173 N) p g S := hI.1.nw hw
  refine ⟨e1, hI.2.1.nw hw (by decide), fun _ => ⟨⟨nw_Ks, ?_, fun j => ?_, fun k hk => ?_⟩, nw_Ns⟩⟩
  · rw [nw_Ns]; exact hb
  · rw [zI_nw, if_pos ⟨rfl, rfl⟩, n2_f, pu_at]; rfl
  · obtain ⟨a1, -⟩ := hI.1.2.2.2.2.2.2.2.2.2.2.2.2 k hk
    rw [zR_nw, if_neg (by decide)]
    exact nw_ne hw a1 (by decide)
theorem zm_qst (o : zOk G X cc own nL fr lo mc ms) {i x : Int32} (hq : q ≠ 0) (hd : decode cc pc = .ok (.iastore, 1)) (hi : inb i n = true) (e : S' = tT S (pu (mT S) (ix i) x)) (kk : zQ (IM h0 p g q n S') G X cl sl (pc + 1) L st) : zQ (IM h0 p g q n S) G X cl sl pc L (.int x :: .int i :: zrf q :: st) := fun h hI hw => by
  obtain ⟨⟨a1, a2, a3, a4⟩, a5⟩ := hI.2.2 hq
  refine zs_iastore o hd a1 (by decide) (by rw [a5]; exact inb_e hi) (kk _ ?_ hw)
  rw [e]
  obtain ⟨w1, w2, w3, w4, w5, w6, w7, w8, w9, w10, w11, w12, w13⟩ := hI.1
  have eI : ∀ c r, r ≠ 173 → zI (sI h 201 173 (ix i) q x) c r = zI h c r := fun c r hc => by rw [zI_sI, if_neg (fun q => hc q.2)]
  refine ⟨⟨w1, fun k hk => ?_, w3, fun k hk => ?_, w5, fun r hr => ?_, w7, w8, fun r hr => ?_, w10, w11, w12, fun k hk => ?_⟩, hI.2.1.sI (by decide), fun _ => ⟨⟨a1, a2, fun j => ?_, a4⟩, a5⟩⟩
  · rw [eI _ _ (by decide)]; exact w2 k hk
  · have := mty_lt hk
    rw [eI _ _ (by omega)]; exact w4 k hk
  · rw [eI _ _ (by decide)]; exact w6 r hr
  · rw [eI _ _ (by decide)]; exact w9 r hr
  · obtain ⟨b1, b2, b3⟩ := w13 k hk
    refine ⟨b1, b2, fun j => ?_⟩
    rw [zI_sI, if_pos ⟨rfl, rfl⟩]
    unfold u2
    rw [if_neg (fun z => a4 k hk z.2)]; exact b3 j
  · show _ = pu (mT S) (ix i) x j
    rw [zI_sI, if_pos ⟨rfl, rfl⟩]
    unfold u2 pu
    by_cases z : j = ix i
    · rw [if_pos ⟨z, rfl⟩, if_pos z]
    · rw [if_neg (fun y => z y.1), if_neg z]; exact a3 j
theorem zm_qld (o : zOk G X cc own nL fr lo mc ms) {i : Int32} (hq : q ≠ 0) (hd : decode cc pc = .ok (.iaload, 1)) (hi : inb i n = true) (kk : zQ (IM h0 p g q n S) G X cl sl (pc + 1) L (.int (mT S (ix i)) :: st)) : zQ (IM h0 p g q n S) G X cl sl pc L (.int i :: zrf q :: st) := fun h hI hw => by
  obtain ⟨⟨a1, a2, a3, a4⟩, a5⟩ := hI.2.2 hq
  refine zs_iaload o hd a1 (by rw [a5]; exact inb_e hi) ?_
  rw [a3]; exact kk h hI hw
theorem zm_qlen (o : zOk G X cc own nL fr lo mc ms) (hq : q ≠ 0) (hd : decode cc pc = .ok (.arraylength, 1)) (kk : zQ (IM h0 p g q n S) G X cl sl (pc + 1) L (.int (nI n) :: st)) : zQ (IM h0 p g q n S) G X cl sl pc L (zrf q :: st) := fun h hI hw => by
  obtain ⟨⟨a1, a2, a3, a4⟩, a5⟩ := hI.2.2 hq
  refine zs_alen o (by decide) hd a1 ?_
  rw [a5]; exact kk h hI hw
/-- the newest array becomes a life -/
theorem zm_lst (o : zOk G X cc own nL fr lo mc ms) {i : Int32} (hq : q ≠ 0) (hd : decode cc pc = .ok (.aastore, 1)) (hi : inb i 2004 = true) (e : S' = tF S (ix i) (mT S)) (kk : zQ (IM h0 p g 0 0 S') G X cl sl (pc + 1) L st) : zQ (IM h0 p g q 5 S) G X cl sl pc L (zrf q :: .int i :: zrf (g.1 45) :: st) := fun h hI hw => by
  obtain ⟨⟨a1, a2, a3, a4⟩, a5⟩ := hI.2.2 hq
  obtain ⟨w1, w2, w3, w4, w5, w6, w7, w8, w9, w10, w11, w12, w13⟩ := hI.1
  refine zs_aastoreI o hd w11 (by decide) (by rw [w12]; exact inb_e hi) a1 (kk _ ?_ hw)
  rw [e]
  have eR : ∀ c r, r ≠ 145 → zR (sR h 206 145 (ix i) (g.1 45) q) c r = zR h c r := fun c r hc => by rw [zR_sR, if_neg (fun q => hc q.2)]
  refine ⟨⟨w1, w2, fun k hk => ?_, w4, ⟨w5.1, w5.2.1, fun j hj => ?_⟩, w6, w7, ⟨w8.1, w8.2.1, fun j hj => ?_⟩, w9, w10, w11, w12, fun k hk => ?_⟩, hI.2.1.sR (by decide), fun z => absurd rfl z⟩
  · rw [eR _ _ (by decide)]; exact w3 k hk
  · rw [eR _ _ (by decide)]; exact w5.2.2 j hj
  · rw [eR _ _ (by decide)]; exact w8.2.2 j hj
  · rw [zR_sR, if_pos ⟨rfl, rfl⟩]
    show zK h (u2 _ _ _ _ _ _) = _ ∧ zN h (u2 _ _ _ _ _ _) = 5 ∧ ∀ w, zI h 201 173 w (u2 _ _ _ _ _ _) = pu (mF S) (ix i) (mT S) k w
    have hk : pu (mE S) (ix i) 1 k = 1 := hk
    by_cases z : k = ix i
    · subst z
      have : u2 (zR h 206 145) (ix i) (g.1 45) q (ix i) (g.1 45) = q := by unfold u2; rw [if_pos ⟨rfl, rfl⟩]
      rw [this, pu_at]
      exact ⟨a1, a5, a3⟩
    · have : u2 (zR h 206 145) (ix i) (g.1 45) q k (g.1 45) = zR h 206 145 k (g.1 45) := by unfold u2; rw [if_neg (fun y => z y.1)]
      rw [pu_ne z] at hk
      rw [this, pu_ne z]
      exact w13 k hk
/-- three rows that read a life -/
theorem zm_life (o : zOk G X cc own nL fr lo mc ms) {i w : Int32} {kf : Fin 4} {j : Nat} (hd : decode cc pc = .ok (.aaload, 1)) (hd2 : decode cc (pc + 1) = .ok (.iload_n kf, 1)) (hd3 : decode cc (pc + 2) = .ok (.iaload, 1)) (hj : (kf : Nat) = j) (hv : L[j]? = some (some (.int w))) (hi : inb i 2004 = true) (hE : (mE S (ix i) == 1) = true) (hw5 : inb w 5 = true)
    (kk : zQ (IM h0 p g q n S) G X cl sl (pc + 3) L (.int (mF S (ix i) (ix w)) :: st)) : zQ (IM h0 p g q n S) G X cl sl pc L (.int i :: zrf (g.1 45) :: st) := fun h hI hw => by
  obtain ⟨w1, w2, w3, w4, w5, w6, w7, w8, w9, w10, w11, w12, w13⟩ := hI.1
  obtain ⟨b1, b2, b3⟩ := w13 (ix i) (by simpa using hE)
  refine zs_aaload o (Or.inr (Or.inl rfl)) hd w11 (by rw [w12]; exact inb_e hi) ?_
  refine zs_iload_n o hd2 hj hv ?_
  refine zs_iaload o hd3 b1 (by rw [b2]; exact inb_e hw5) ?_
  rw [b3]; exact kk h hI hw
/-- a row is no null -/
theorem zm_nnrow {I : zH → Prop} (o : zOk G X cc own nL fr lo mc ms) {r : Nat} (hI0 : ∀ h, I h → RepM h p g S) (hr : r < 16) {off : Int} {tgt : Nat} (hd : decode cc pc = .ok (.ifnull off, 3)) (ht : (pc : Int) + off = (tgt : Int)) (kk : zQ I G X cl sl (pc + 3) L st) : zQ I G X cl sl pc L (zrf (g.2.1 r) :: st) := fun h hI hw => by
  refine zs_ifnull o hd ht (fun e => ?_) (fun _ => kk h hI hw)
  have a1 := ((hI0 h hI).2.2.2.2.2.1 r hr).1
  have := hw (g.2.1 r) (by rw [a1]; decide)
  omega
theorem zm_null {I : zH → Prop} (o : zOk G X cc own nL fr lo mc ms) {off : Int} {tgt : Nat} (hd : decode cc pc = .ok (.ifnull off, 3)) (ht : (pc : Int) + off = (tgt : Int)) (kk : zQ I G X cl sl tgt L st) : zQ I G X cl sl pc L (zrf 0 :: st) := fun h hI hw => zs_ifnull o hd ht (fun _ => kk h hI hw) (fun e => absurd rfl e)
end ZM
/-- contracts of the reference's methods: the answer V, the state S' -/
def zMi (G : zG) (y : MethodName) (cc : ByteArray) (maxL : Nat) (ret : Option FieldType) (fr mc ms : Nat) (p : Nat) (g : MG) (q n : Nat) (As : List Value) (S : MS) (V : Int32) (S' : MS) : Prop := ∀ h0 h, IM h0 p g q n S h → zCo G y cc maxL ret fr mc ms (zrf p :: As) h (zPi fun x h' => x = V ∧ IM h0 p g q n S' h') zNX
def zMl (G : zG) (y : MethodName) (cc : ByteArray) (maxL : Nat) (ret : Option FieldType) (fr mc ms : Nat) (p : Nat) (g : MG) (q n : Nat) (As : List Value) (S : MS) (V : Int64) (S' : MS) : Prop := ∀ h0 h, IM h0 p g q n S h → zCo G y cc maxL ret fr mc ms (zrf p :: As) h (zPl fun x h' => x = V ∧ IM h0 p g q n S' h') zNX
def zMf (G : zG) (y : MethodName) (cc : ByteArray) (maxL : Nat) (ret : Option FieldType) (fr mc ms : Nat) (p : Nat) (g : MG) (q n : Nat) (As : List Value) (S : MS) (V : UInt32) (S' : MS) : Prop := ∀ h0 h, IM h0 p g q n S h → zCo G y cc maxL ret fr mc ms (zrf p :: As) h (zPf fun x h' => x = V ∧ IM h0 p g q n S' h') zNX
def zMv (G : zG) (y : MethodName) (cc : ByteArray) (maxL : Nat) (ret : Option FieldType) (fr mc ms : Nat) (p : Nat) (g : MG) (q n : Nat) (As : List Value) (S : MS) (S' : MS) : Prop := ∀ h0 h, IM h0 p g q n S h → zCo G y cc maxL ret fr mc ms (zrf p :: As) h (zPv fun h' => IM h0 p g q n S' h') zNX
/-- .. that answer a new array of n -/
def zMq (G : zG) (y : MethodName) (cc : ByteArray) (maxL : Nat) (ret : Option FieldType) (fr mc ms : Nat) (p : Nat) (g : MG) (n : Nat) (As : List Value) (S : MS) (S' : MS) : Prop := ∀ h0 h, IM h0 p g 0 0 S h → zCo G y cc maxL ret fr mc ms (zrf p :: As) h (zPr fun q h' => q ≠ 0 ∧ IM h0 p g q n S' h') zNX
/-- static ones that only compute -/
def zSi (G : zG) (y : MethodName) (cc : ByteArray) (maxL : Nat) (ret : Option FieldType) (fr : Nat) (As : List Value) (V : Int32) : Prop := ∀ h, zCo G y cc maxL ret fr 0 0 As h (zPi fun x h' => x = V ∧ h' = h) zNX
section ZMC
variable {h0 : zH} {p q n : Nat} {g : MG} {S : MS} {G : zG} {X : zX} {cc : ByteArray} {own : String} {nL fr lo mc ms cl sl pc : Nat} {L : List (Option Value)}
variable {y : MethodName} {bytes : ByteArray} {maxL m index fr' mc' ms' : Nat} {ret : Option FieldType} {As rest st0 : List Value} {S' : MS}
theorem zm_Vi (o : zOk G X cc own nL fr lo mc ms) {V : Int32} (lk : zLV own index 3 y bytes maxL ret m) (hM : zMi G y bytes maxL ret fr' mc' ms' p g q n As S V S') (hd : decode cc pc = .ok (.invokevirtual index, 3)) (hst : st0 = As.reverse ++ zrf p :: rest) (hn : As.length = m)
    (hb : (Nat.ble (fr' + 1) fr && Nat.ble (8 + (maxL + 11) + 64 * fr') lo) = true) (hrest : Nat.ble rest.length 4 = true) (hcl : cl + mc' ≤ mc) (hsl : sl + ms' ≤ ms) (kk : zQ (IM h0 p g q n S') G X (cl + mc') (sl + ms') (pc + 3) L (.int V :: rest)) : zQ (IM h0 p g q n S) G X cl sl pc L st0 := fun h hI hw =>
  zc_Vi o hI.1.1 lk (hM h0 h hI) hd hst hn hb hrest hcl hsl (fun x h' hp hw' => by rw [hp.1]; exact kk h' hp.2 hw')
theorem zm_Vv (o : zOk G X cc own nL fr lo mc ms) (lk : zLV own index 3 y bytes maxL ret m) (hM : zMv G y bytes maxL ret fr' mc' ms' p g q n As S S') (hd : decode cc pc = .ok (.invokevirtual index, 3)) (hst : st0 = As.reverse ++ zrf p :: rest) (hn : As.length = m)
    (hb : (Nat.ble (fr' + 1) fr && Nat.ble (8 + (maxL + 11) + 64 * fr') lo) = true) (hrest : Nat.ble rest.length 4 = true) (hcl : cl + mc' ≤ mc) (hsl : sl + ms' ≤ ms) (kk : zQ (IM h0 p g q n S') G X (cl + mc') (sl + ms') (pc + 3) L rest) : zQ (IM h0 p g q n S) G X cl sl pc L st0 := fun h hI hw =>
  zc_Vv o hI.1.1 lk (hM h0 h hI) hd hst hn hb hrest hcl hsl (fun h' hp hw' => kk h' hp hw')
theorem zm_Vq (o : zOk G X cc own nL fr lo mc ms) (lk : zLV own index 3 y bytes maxL ret m) (hM : zMq G y bytes maxL ret fr' mc' ms' p g n As S S') (hd : decode cc pc = .ok (.invokevirtual index, 3)) (hst : st0 = As.reverse ++ zrf p :: rest) (hn : As.length = m)
    (hb : (Nat.ble (fr' + 1) fr && Nat.ble (8 + (maxL + 11) + 64 * fr') lo) = true) (hrest : Nat.ble rest.length 4 = true) (hcl : cl + mc' ≤ mc) (hsl : sl + ms' ≤ ms) (kk : ∀ q, q ≠ 0 → zQ (IM h0 p g q n S') G X (cl + mc') (sl + ms') (pc + 3) L (zrf q :: rest)) : zQ (IM h0 p g 0 0 S) G X cl sl pc L st0 := fun h hI hw =>
  zc_Vr o hI.1.1 lk (hM h0 h hI) hd hst hn hb hrest hcl hsl (fun x h' hp hw' => kk x hp.1 h' hp.2 hw')
theorem zQ_Si {I : zH → Prop} (o : zOk G X cc own nL fr lo mc ms) {V : Int32} (lk : zLS own index y bytes maxL ret m) (hM : zSi G y bytes maxL ret fr' As V) (hd : decode cc pc = .ok (.invokestatic index, 3)) (hst : st0 = As.reverse ++ rest) (hn : As.length = m)
    (hb : (Nat.ble (fr' + 1) fr && Nat.ble (8 + (maxL + 11) + 64 * fr') lo) = true) (hrest : Nat.ble rest.length 4 = true) (hcl : cl + 0 ≤ mc) (hsl : sl + 0 ≤ ms) (kk : zQ I G X cl sl (pc + 3) L (.int V :: rest)) : zQ I G X cl sl pc L st0 := fun h hI hw =>
  zc_Si o lk (hM h) hd hst hn hb hrest hcl hsl (fun x h' hp hw' => by rw [hp.1, hp.2]; exact kk h hI hw)
theorem zm_reti (o : zOk G X cc own nL fr lo mc ms) {ty : FieldType} {v V : Int32} (f : zEnd G X (zPi fun x h' => x = V ∧ IM h0 p g q n S' h') mc ms (some ty)) (hd : decode cc pc = .ok (.ireturn, 1)) (hn : narrow ty (.int v) = .int v) (hc : cl ≤ mc) (hs : sl ≤ ms) (e : (S, v) = (S', V)) : zQ (IM h0 p g q n S) G X cl sl pc L [.int v] := fun h hI hw =>
  zs_reti o f hd hn hc hs ⟨(Prod.mk.inj e).2, by rw [← (Prod.mk.inj e).1]; exact hI⟩
theorem zm_retq0 {q' n' : Nat} (o : zOk G X cc own nL fr lo mc ms) {ty : FieldType} {v V : Int32} (f : zEnd G X (zPi fun x h' => x = V ∧ IM h0 p g 0 n' S' h') mc ms (some ty)) (hd : decode cc pc = .ok (.ireturn, 1)) (hn : narrow ty (.int v) = .int v) (hc : cl ≤ mc) (hs : sl ≤ ms) (e : (S, v) = (S', V)) : zQ (IM h0 p g q' n S) G X cl sl pc L [.int v] := fun h hI hw =>
  zs_reti o f hd hn hc hs ⟨(Prod.mk.inj e).2, by rw [← (Prod.mk.inj e).1]; exact ⟨hI.1, hI.2.1, fun z => absurd rfl z⟩⟩
theorem zm_retl (o : zOk G X cc own nL fr lo mc ms) {v V : Int64} (f : zEnd G X (zPl fun x h' => x = V ∧ IM h0 p g q n S' h') mc ms (some .long)) (hd : decode cc pc = .ok (.lreturn, 1)) (hc : cl ≤ mc) (hs : sl ≤ ms) (e : (S, v) = (S', V)) : zQ (IM h0 p g q n S) G X cl sl pc L [.long v] := fun h hI hw =>
  zs_retl o f hd hc hs ⟨(Prod.mk.inj e).2, by rw [← (Prod.mk.inj e).1]; exact hI⟩
theorem zm_retf (o : zOk G X cc own nL fr lo mc ms) {v V : UInt32} (f : zEnd G X (zPf fun x h' => x = V ∧ IM h0 p g q n S' h') mc ms (some .float)) (hd : decode cc pc = .ok (.freturn, 1)) (hc : cl ≤ mc) (hs : sl ≤ ms) (e : (S, v) = (S', V)) : zQ (IM h0 p g q n S) G X cl sl pc L [.float v] := fun h hI hw =>
  zs_retf o f hd hc hs ⟨(Prod.mk.inj e).2, by rw [← (Prod.mk.inj e).1]; exact hI⟩
theorem zm_retv (o : zOk G X cc own nL fr lo mc ms) (f : zEnd G X (zPv fun h' => IM h0 p g q n S' h') mc ms none) (hd : decode cc pc = .ok (.return_, 1)) (hc : cl ≤ mc) (hs : sl ≤ ms) (e : S = S') : zQ (IM h0 p g q n S) G X cl sl pc L [] := fun h hI hw =>
  zs_retv o f hd hc hs (by rw [← e]; exact hI)
theorem zm_retq {q' : Nat} (o : zOk G X cc own nL fr lo mc ms) {rt : FieldType} (f : zEnd G X (zPr fun x h' => x ≠ 0 ∧ IM h0 p g x n S' h') mc ms (some rt)) (hd : decode cc pc = .ok (.areturn, 1)) (hrt : rt.isReference = true) (hq : q' ≠ 0) (hc : cl ≤ mc) (hs : sl ≤ ms) (e : S = S') : zQ (IM h0 p g q' n S) G X cl sl pc L [zrf q'] := fun h hI hw =>
  zs_retr o f hd hrt hc hs ⟨hq, by rw [← e]; exact hI⟩
theorem zQ_reti (o : zOk G X cc own nL fr lo mc ms) {h : zH} {ty : FieldType} {v V : Int32} (f : zEnd G X (zPi fun x h' => x = V ∧ h' = h) mc ms (some ty)) (hd : decode cc pc = .ok (.ireturn, 1)) (hn : narrow ty (.int v) = .int v) (hc : cl ≤ mc) (hs : sl ≤ ms) (e : v = V) : zQ (fun h' => h' = h) G X cl sl pc L [.int v] := fun h' hI hw =>
  zs_reti o f hd hn hc hs ⟨e, hI⟩
end ZMC

/-! THE HEAP IN PLAIN LEAN: reading over writing, and what stays -/
set_option maxRecDepth 100000
theorem gd_true {α : Type} {k : Option α} : gd true k = k := by unfold gd; rw [if_pos rfl]
theorem gd_t {α : Type} {c : Bool} {k : Option α} (h : c = true) : gd c k = k := by unfold gd; rw [if_pos h]
theorem bd_s {α β : Type} {y : α} {f : α → Option β} : bd (some y) f = f y := rfl
/-! rewriting with proofs that the kernel needn't compute (no theorem by rfl: simp would leave them to it) -/
theorem eKI {h : zH} {c r f p : Nat} {x : Int32} : zK (sI h c r f p x) = zK h := id rfl
theorem eKR {h : zH} {c r f p x : Nat} : zK (sR h c r f p x) = zK h := id rfl
theorem eKL {h : zH} {c r f p : Nat} {x : Int64} : zK (sL h c r f p x) = zK h := id rfl
theorem eNI {h : zH} {c r f p : Nat} {x : Int32} : zN (sI h c r f p x) = zN h := id rfl
theorem eNR {h : zH} {c r f p x : Nat} : zN (sR h c r f p x) = zN h := id rfl
theorem eNL {h : zH} {c r f p : Nat} {x : Int64} : zN (sL h c r f p x) = zN h := id rfl
theorem eTI {h : zH} {c r f p : Nat} {x : Int32} : zT (sI h c r f p x) = zT h := id rfl
theorem eTR {h : zH} {c r f p x : Nat} : zT (sR h c r f p x) = zT h := id rfl
theorem eTL {h : zH} {c r f p : Nat} {x : Int64} : zT (sL h c r f p x) = zT h := id rfl
theorem eTn {h : zH} {c r n : Nat} : zT (nw h c r n) = zT h + 1 := id rfl
theorem eIR {h : zH} {c r f p x : Nat} : zI (sR h c r f p x) = zI h := id rfl
theorem eIL {h : zH} {c r f p : Nat} {x : Int64} : zI (sL h c r f p x) = zI h := id rfl
theorem eRI {h : zH} {c r f p : Nat} {x : Int32} : zR (sI h c r f p x) = zR h := id rfl
theorem eRL {h : zH} {c r f p : Nat} {x : Int64} : zR (sL h c r f p x) = zR h := id rfl
theorem eLI {h : zH} {c r f p : Nat} {x : Int32} : zL (sI h c r f p x) = zL h := id rfl
theorem eLR {h : zH} {c r f p x : Nat} : zL (sR h c r f p x) = zL h := id rfl
theorem ukd {h : zH} {p c : Nat} : kd h p c = decide ((zK h p).1 = c) := id rfl
theorem uwr {h : zH} {p : Nat} : wr h p = decide ((zK h p).2 ≠ 0) := id rfl
theorem url {h : zH} {p : Nat} : rl h p = (zK h p).2 := id rfl
theorem unz {p : Nat} : nzr p = decide (p ≠ 0) := id rfl
theorem uhI {h : zH} {c k p : Nat} : hI h c k p = zI h c (zK h p).2 k p := id rfl
theorem uhR {h : zH} {c k p : Nat} : hR h c k p = zR h c (zK h p).2 k p := id rfl
theorem uhL {h : zH} {c k p : Nat} : hL h c k p = zL h c (zK h p).2 k p := id rfl
theorem upI {h : zH} {c k p : Nat} {x : Int32} : pI h c k p x = sI h c (zK h p).2 k p x := id rfl
theorem upR {h : zH} {c k p x : Nat} : pR h c k p x = sR h c (zK h p).2 k p x := id rfl
theorem upL {h : zH} {c k p : Nat} {x : Int64} : pL h c k p x = sL h c (zK h p).2 k p x := id rfl
theorem ult {α β : Type} {x : α} {f : α → Option β} : lt x f = f x := id rfl
theorem ubd {α β : Type} {y : α} {f : α → Option β} : bd (some y) f = f y := id rfl
theorem bd_t {α β : Type} {x : Option α} {y : α} {f : α → Option β} (h : x = some y) : bd x f = f y := by rw [h]; rfl
theorem rIw {h : zH} {c r f p : Nat} {x : Int32} {c' r' f' p' : Nat} : zI (sI h c r f p x) c' r' f' p' = if c' = c ∧ r' = r ∧ f' = f ∧ p' = p then x else zI h c' r' f' p' := id rfl
theorem rRw {h : zH} {c r f p x c' r' f' p' : Nat} : zR (sR h c r f p x) c' r' f' p' = if c' = c ∧ r' = r ∧ f' = f ∧ p' = p then x else zR h c' r' f' p' := id rfl
theorem rLw {h : zH} {c r f p : Nat} {x : Int64} {c' r' f' p' : Nat} : zL (sL h c r f p x) c' r' f' p' = if c' = c ∧ r' = r ∧ f' = f ∧ p' = p then x else zL h c' r' f' p' := id rfl
theorem rIn {h : zH} {c r n c' r' f' p' : Nat} : zI (nw h c r n) c' r' f' p' = if c' = c ∧ r' = r ∧ p' = zT h + 1 then 0 else zI h c' r' f' p' := id rfl
theorem rRn {h : zH} {c r n c' r' f' p' : Nat} : zR (nw h c r n) c' r' f' p' = if c' = c ∧ r' = r ∧ p' = zT h + 1 then 0 else zR h c' r' f' p' := id rfl
theorem rLn {h : zH} {c r n c' r' f' p' : Nat} : zL (nw h c r n) c' r' f' p' = if c' = c ∧ r' = r ∧ p' = zT h + 1 then 0 else zL h c' r' f' p' := id rfl
theorem zK_nw {h : zH} {c r n q : Nat} : zK (nw h c r n) q = if q = zT h + 1 then (c, r) else zK h q := id rfl
theorem zN_nw {h : zH} {c r n q : Nat} : zN (nw h c r n) q = if q = zT h + 1 then n else zN h q := id rfl
theorem wf_ne {h : zH} (w : zWf h) {q c r : Nat} (hq : zK h q = (c, r)) (h0 : c ≠ 0) : ¬ q = zT h + 1 := by
  have h1 := w q (by rw [hq]; exact h0)
  omega
theorem wf_n0 {h : zH} (w : zWf h) {q c r : Nat} (hq : zK h q = (c, r)) (h0 : c ≠ 0) : q ≠ 0 := by
  have h1 := w q (by rw [hq]; exact h0)
  omega
theorem k0_ne {h : zH} {q p c r c' r' : Nat} (hq : zK h q = (c, r)) (hp : zK h p = (c', r')) (h0 : c ≠ c') : ¬ q = p := fun e => h0 (by rw [e, hp] at hq; exact (Prod.mk.inj hq).1.symm)
/-- all stays but what objects of the classes and roles in l hold -/
def Ch (l : List (Nat × Nat)) (h h' : zH) : Prop := zT h ≤ zT h' ∧ (zWf h → zWf h') ∧ (∀ q, (zK h q).1 ≠ 0 → zK h' q = zK h q ∧ zN h' q = zN h q) ∧ ∀ c s, (c, s) ∉ l → zI h' c s = zI h c s ∧ zR h' c s = zR h c s ∧ zL h' c s = zL h c s
section CH
variable {l m : List (Nat × Nat)} {h h0 h1 h2 h' : zH}
theorem Ch.rf : Ch l h h := ⟨Nat.le_refl _, id, fun _ _ => ⟨rfl, rfl⟩, fun _ _ _ => ⟨rfl, rfl, rfl⟩⟩
theorem Ch.tr (a : Ch l h0 h1) (b : Ch l h1 h2) : Ch l h0 h2 := ⟨Nat.le_trans a.1 b.1, fun w => b.2.1 (a.2.1 w), fun q hq => by
  have h1 := a.2.2.1 q hq
  have h2 := b.2.2.1 q (by rw [h1.1]; exact hq)
  exact ⟨h2.1.trans h1.1, h2.2.trans h1.2⟩, fun c s hs => by
  obtain ⟨a1, a2, a3⟩ := a.2.2.2 c s hs
  obtain ⟨b1, b2, b3⟩ := b.2.2.2 c s hs
  exact ⟨b1.trans a1, b2.trans a2, b3.trans a3⟩⟩
theorem Ch.sub (a : Ch l h h') (e : ∀ x ∈ l, x ∈ m) : Ch m h h' := ⟨a.1, a.2.1, a.2.2.1, fun c s hs => a.2.2.2 c s (fun z => hs (e _ z))⟩
theorem Ch.wf (a : Ch l h h') (w : zWf h) : zWf h' := a.2.1 w
theorem Ch.k (a : Ch l h h') {q c s : Nat} (hq : zK h q = (c, s)) (h0 : c ≠ 0) : zK h' q = (c, s) := by rw [(a.2.2.1 q (by rw [hq]; exact h0)).1]; exact hq
theorem Ch.n (a : Ch l h h') {q c s : Nat} (hq : zK h q = (c, s)) (h0 : c ≠ 0) : zN h' q = zN h q := (a.2.2.1 q (by rw [hq]; exact h0)).2
theorem Ch.i (a : Ch l h h') {c s : Nat} (e : (c, s) ∉ l) : zI h' c s = zI h c s := (a.2.2.2 c s e).1
theorem Ch.r (a : Ch l h h') {c s : Nat} (e : (c, s) ∉ l) : zR h' c s = zR h c s := (a.2.2.2 c s e).2.1
theorem Ch.g (a : Ch l h h') {c s : Nat} (e : (c, s) ∉ l) : zL h' c s = zL h c s := (a.2.2.2 c s e).2.2
theorem Ch.sI (a : Ch l h h') {c r f p : Nat} {x : Int32} (e : (c, r) ∈ l) : Ch l h (sI h' c r f p x) := ⟨a.1, fun w => a.2.1 w, a.2.2.1, fun c' s hs => by
  obtain ⟨a1, a2, a3⟩ := a.2.2.2 c' s hs
  refine ⟨?_, a2, a3⟩
  rw [← a1, zI_sI, if_neg]
  rintro ⟨rfl, rfl⟩
  exact hs e⟩
theorem Ch.sR (a : Ch l h h') {c r f p x : Nat} (e : (c, r) ∈ l) : Ch l h (sR h' c r f p x) := ⟨a.1, fun w => a.2.1 w, a.2.2.1, fun c' s hs => by
  obtain ⟨a1, a2, a3⟩ := a.2.2.2 c' s hs
  refine ⟨a1, ?_, a3⟩
  rw [← a2, zR_sR, if_neg]
  rintro ⟨rfl, rfl⟩
  exact hs e⟩
theorem Ch.sL (a : Ch l h h') {c r f p : Nat} {x : Int64} (e : (c, r) ∈ l) : Ch l h (sL h' c r f p x) := ⟨a.1, fun w => a.2.1 w, a.2.2.1, fun c' s hs => by
  obtain ⟨a1, a2, a3⟩ := a.2.2.2 c' s hs
  refine ⟨a1, a2, ?_⟩
  rw [← a3, zL_sL, if_neg]
  rintro ⟨rfl, rfl⟩
  exact hs e⟩
theorem Ch.nw (a : Ch l h h') (w : zWf h) {c r n : Nat} (e : (c, r) ∈ l) : Ch l h (nw h' c r n) := ⟨Nat.le_succ_of_le a.1, fun w => zWf_nw (a.2.1 w), fun q hq => by
  have h9 := a.2.2.1 q hq
  have hne : ¬ q = zT h' + 1 := wf_ne (a.2.1 w) (c := (zK h' q).1) (r := (zK h' q).2) rfl (by rw [h9.1]; exact hq)
  rw [zK_nw, zN_nw, if_neg hne, if_neg hne]
  exact h9, fun c' s hs => by
  obtain ⟨a1, a2, a3⟩ := a.2.2.2 c' s hs
  have e9 : ¬ (c' = c ∧ s = r) := by rintro ⟨rfl, rfl⟩; exact hs e
  refine ⟨?_, ?_, ?_⟩
  · rw [← a1, zI_nw, if_neg e9]
  · rw [← a2, zR_nw, if_neg e9]
  · rw [← a3, zL_nw, if_neg e9]⟩
end CH

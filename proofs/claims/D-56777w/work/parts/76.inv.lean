/-! WHAT THE STATE KEEPS -/
set_option maxRecDepth 100000
def rg (v : Int32) : Prop := ∃ n, n < 24 ∧ v = nI n
def lnOk (f : FL) : Prop := 0 ≤ f.1 3 ∧ f.1 21 = -1 ∧ f.1 12 = -1 ∧ f.1 16 = 0 ∧ f.1 14 = 102
def stT (A : AS) (f : FL) : Prop := cSto (cd A f) → f.1 14 = 101 → f.1 16 = 0 → isAd (f.1 17)
/-- a flight of the buffer -/
def bfOk (A : AS) (f : FL) : Prop := fB A f ∧ stB f ∧ (f.1 12 ≠ -1 → rg (f.1 13)) ∧ stT A f
def KI (N : Nat) (A : AS) : Prop :=
  (InvP A) ∧
  (∀ f ∈ aBuf A, bfOk A f) ∧
  ((aFree A).length + cntD (aBuf A) ≤ 16) ∧
  (∀ j, j < 8 → rg (aA A 11 j) ∧ rg (aA A 12 j)) ∧
  (∃ n, 1 ≤ n ∧ n ≤ 4 ∧ aS A 5 = nI n) ∧
  (∃ n, 1 ≤ n ∧ n ≤ 16 ∧ aS A 6 = nI n ∧ (aBuf A).length ≤ n) ∧
  (∃ n, 1 ≤ n ∧ n ≤ 8 ∧ aS A 7 = nI n ∧ aQueued A ≤ n) ∧
  (aS A 42 = 0 ∨ aS A 42 = 1) ∧
  (aS A 28 = 0 ∨ aS A 28 = 1) ∧
  (askOk A ∧ (aAsk A).length ≤ 2) ∧
  (∃ a b c, aS A 18 = nI a ∧ aS A 36 = nI b ∧ aS A 37 = nI c ∧ a ≤ N ∧ b ≤ N ∧ c ≤ N) ∧
  (∀ f ∈ aLine A, lnOk f)
theorem KI.p {N : Nat} {A : AS} (w : KI N A) : InvP A := w.1
theorem KI.b {N : Nat} {A : AS} (w : KI N A) : ∀ f ∈ aBuf A, bfOk A f := w.2.1
theorem KI.n {N : Nat} {A : AS} (w : KI N A) : (aFree A).length + cntD (aBuf A) ≤ 16 := w.2.2.1
theorem KI.m {N : Nat} {A : AS} (w : KI N A) : ∀ j, j < 8 → rg (aA A 11 j) ∧ rg (aA A 12 j) := w.2.2.2.1
theorem KI.w {N : Nat} {A : AS} (w : KI N A) : ∃ n, 1 ≤ n ∧ n ≤ 4 ∧ aS A 5 = nI n := w.2.2.2.2.1
theorem KI.z {N : Nat} {A : AS} (w : KI N A) : ∃ n, 1 ≤ n ∧ n ≤ 16 ∧ aS A 6 = nI n ∧ (aBuf A).length ≤ n := w.2.2.2.2.2.1
theorem KI.q {N : Nat} {A : AS} (w : KI N A) : ∃ n, 1 ≤ n ∧ n ≤ 8 ∧ aS A 7 = nI n ∧ aQueued A ≤ n := w.2.2.2.2.2.2.1
theorem KI.h {N : Nat} {A : AS} (w : KI N A) : aS A 42 = 0 ∨ aS A 42 = 1 := w.2.2.2.2.2.2.2.1
theorem KI.i {N : Nat} {A : AS} (w : KI N A) : aS A 28 = 0 ∨ aS A 28 = 1 := w.2.2.2.2.2.2.2.2.1
theorem KI.k {N : Nat} {A : AS} (w : KI N A) : askOk A ∧ (aAsk A).length ≤ 2 := w.2.2.2.2.2.2.2.2.2.1
theorem KI.c {N : Nat} {A : AS} (w : KI N A) : ∃ a b c, aS A 18 = nI a ∧ aS A 36 = nI b ∧ aS A 37 = nI c ∧ a ≤ N ∧ b ≤ N ∧ c ≤ N := w.2.2.2.2.2.2.2.2.2.2.1
theorem KI.l {N : Nat} {A : AS} (w : KI N A) : ∀ f ∈ aLine A, lnOk f := w.2.2.2.2.2.2.2.2.2.2.2
theorem KI.bo {N : Nat} {A : AS} (w : KI N A) : bOk A := ⟨w.p, fun f hf => (w.b f hf).1, w.n⟩
theorem KI.th {N : Nat} {A : AS} (w : KI N A) : thOk A := w.bo.th
theorem KI.mono {N M : Nat} {A : AS} (w : KI N A) (h : N ≤ M) : KI M A := ⟨w.p, w.b, w.n, w.m, w.w, w.z, w.q, w.h, w.i, w.k, (by obtain ⟨a, b, c, c1, c2, c3, c4, c5, c6⟩ := w.c; exact ⟨a, b, c, c1, c2, c3, by omega, by omega, by omega⟩), w.l⟩
theorem bfOk.eq {A B : AS} {f : FL} (b : bfOk A f) (ea : ∀ k, aA B (50 + k) = aA A (50 + k)) : bfOk B f := by
  have ec : cd B f = cd A f := by show aA B (50 + 0) _ = aA A (50 + 0) _; rw [ea]
  exact ⟨b.1.eq ea, b.2.1, b.2.2.1, by unfold stT; rw [ec]; exact b.2.2.2⟩
section KIS
variable {N : Nat} {A : AS}
theorem KI.sc (w : KI N A) {k : Nat} {v : Int32} (h : k ∉ [0, 5, 6, 7, 18, 28, 36, 37, 42]) : KI N (wS A k v) := by
  have e : ∀ j, j ∈ [0, 5, 6, 7, 18, 28, 36, 37, 42] → aS (wS A k v) j = aS A j := fun j hj => aS_ne (fun z => h (z ▸ hj))
  exact ⟨(w.p.eq (e 0 (by decide)) (fun _ => rfl)), (w.b), (w.n), (w.m), (by rw [e 5 (by decide)]; exact w.w), (by rw [e 6 (by decide)]; exact w.z), (by rw [e 7 (by decide)]; exact w.q), (by rw [e 42 (by decide)]; exact w.h), (by rw [e 28 (by decide)]; exact w.i), (w.k), (by rw [e 18 (by decide), e 36 (by decide), e 37 (by decide)]; exact w.c), (w.l)⟩
theorem KI.s42 (w : KI N A) {v : Int32} (h : v = 0 ∨ v = 1) : KI N (wS A 42 v) := by
  have e : ∀ j, j ≠ 42 → aS (wS A 42 v) j = aS A j := fun j hj => aS_ne hj
  exact ⟨(w.p.eq (e 0 (by decide)) (fun _ => rfl)), (w.b), (w.n), (w.m), (by rw [e 5 (by decide)]; exact w.w), (by rw [e 6 (by decide)]; exact w.z), (by rw [e 7 (by decide)]; exact w.q), (by show pu (aS A) 42 v 42 = 0 ∨ pu (aS A) 42 v 42 = 1; rw [pu_at]; exact h), (by rw [e 28 (by decide)]; exact w.i), (w.k), (by rw [e 18 (by decide), e 36 (by decide), e 37 (by decide)]; exact w.c), (w.l)⟩
theorem KI.s28 (w : KI N A) {v : Int32} (h : v = 0 ∨ v = 1) : KI N (wS A 28 v) := by
  have e : ∀ j, j ≠ 28 → aS (wS A 28 v) j = aS A j := fun j hj => aS_ne hj
  exact ⟨(w.p.eq (e 0 (by decide)) (fun _ => rfl)), (w.b), (w.n), (w.m), (by rw [e 5 (by decide)]; exact w.w), (by rw [e 6 (by decide)]; exact w.z), (by rw [e 7 (by decide)]; exact w.q), (by rw [e 42 (by decide)]; exact w.h), (by show pu (aS A) 28 v 28 = 0 ∨ pu (aS A) 28 v 28 = 1; rw [pu_at]; exact h), (w.k), (by rw [e 18 (by decide), e 36 (by decide), e 37 (by decide)]; exact w.c), (w.l)⟩
theorem KI.sc1 (w : KI N A) {k : Nat} {v : Int32} (h : k = 18 ∨ k = 36 ∨ k = 37) (hv : v = aS A k + 1) : KI (N + 1) (wS A k v) := by
  have e : ∀ j, j ≠ k → aS (wS A k v) j = aS A j := fun j hj => aS_ne hj
  have e0 : aS (wS A k v) k = aS A k + 1 := (pu_at (aS A) k v).trans hv
  have w2 : KI (N + 1) A := w.mono (by omega)
  obtain ⟨a, b, c, c1, c2, c3, c4, c5, c6⟩ := w.c
  exact ⟨(w.p.eq (e 0 (by omega)) (fun _ => rfl)), (w.b), (w.n), (w.m), (by rw [e 5 (by omega)]; exact w.w), (by rw [e 6 (by omega)]; exact w.z), (by rw [e 7 (by omega)]; exact w.q), (by rw [e 42 (by omega)]; exact w.h), (by rw [e 28 (by omega)]; exact w.i), (w.k), (by
      rcases h with h | h | h
      · subst h; rw [e0, e 36 (by decide), e 37 (by decide), c1, ← nI_succ]; exact ⟨a + 1, b, c, rfl, c2, c3, by omega, by omega, by omega⟩
      · subst h; rw [e0, e 18 (by decide), e 37 (by decide), c2, ← nI_succ]; exact ⟨a, b + 1, c, c1, rfl, c3, by omega, by omega, by omega⟩
      · subst h; rw [e0, e 18 (by decide), e 36 (by decide), c3, ← nI_succ]; exact ⟨a, b, c + 1, c1, c2, rfl, by omega, by omega, by omega⟩), (w.l)⟩
theorem KI.ar (w : KI N A) {k j : Nat} {v : Int32} (h : k < 50) (hr : k = 11 ∨ k = 12 → rg v) : KI N (wA A k j v) := by
  have ea : ∀ i, aA (wA A k j v) (50 + i) = aA A (50 + i) := fun i => (show u2 (aA A) k j v (50 + i) = aA A (50 + i) from u2_k (by omega))
  have e : ∀ k', k' = 11 ∨ k' = 12 → ∀ i, rg (aA A k' i) → rg (aA (wA A k j v) k' i) := fun k' hk' i h1 => by
    show rg (u2 (aA A) k j v k' i)
    unfold u2
    split
    · rename_i z; exact hr (by rw [← z.1]; exact hk')
    · exact h1
  exact ⟨(w.p.eq rfl ea), (fun f hf => (w.b f hf).eq ea), (w.n), (fun i hi => ⟨e 11 (Or.inl rfl) i (w.m i hi).1, e 12 (Or.inr rfl) i (w.m i hi).2⟩), (w.w), (w.z), (w.q), (w.h), (w.i), (w.k), (w.c), (w.l)⟩
theorem KI.ar0 (w : KI N A) {k j : Nat} {v : Int32} (h : k < 50 ∧ k ≠ 11 ∧ k ≠ 12) : KI N (wA A k j v) := w.ar h.1 (fun z => absurd z (by omega))
theorem KI.en (w : KI N A) {l : List (Nat → Int32)} : KI N (wEnd A l) := ⟨w.p, w.b, w.n, w.m, w.w, w.z, w.q, w.h, w.i, w.k, w.c, w.l⟩
theorem KI.re (w : KI N A) {l : List Int32} : KI N (wRet A l) := ⟨w.p, w.b, w.n, w.m, w.w, w.z, w.q, w.h, w.i, w.k, w.c, w.l⟩
theorem KI.li (w : KI N A) {l : List FL} (h : ∀ f ∈ l, lnOk f) : KI N (wLine A l) := ⟨w.p, w.b, w.n, w.m, w.w, w.z, w.q, w.h, w.i, w.k, w.c, (h)⟩
theorem KI.as (w : KI N A) {l : List (Int32 × Int32)} (h : ∀ q ∈ l, ∃ n, n < 16 ∧ q.1 = nI n) (hl : l.length ≤ 2) : KI N (wAsk A l) := ⟨w.p, w.b, w.n, w.m, w.w, w.z, w.q, w.h, w.i, (⟨h, hl⟩), w.c, w.l⟩
/-! the buffer -/
theorem KI.lt (w : KI N A) {t : List FL} {l : List Int32} (hs : ∀ f ∈ t, f ∈ aBuf A) (hl : t.length ≤ (aBuf A).length) (hq : (t.filter fun f => decide (f.1 14 = 113)).length ≤ aQueued A) (hn : l.length + cntD t ≤ 16) : KI N (wFree (wBuf A t) l) :=
  ⟨w.p, (fun f hf => w.b f (hs f hf)), (hn), w.m, w.w, (by obtain ⟨n, a, b, c, d⟩ := w.z; exact ⟨n, a, b, c, Nat.le_trans hl d⟩), (by obtain ⟨n, a, b, c, d⟩ := w.q; exact ⟨n, a, b, c, Nat.le_trans hq d⟩), w.h, w.i, w.k, w.c, w.l⟩
theorem fil_dl {l : List FL} : (l.dropLast.filter fun f => decide (f.1 14 = 113)).length ≤ (l.filter fun f => decide (f.1 14 = 113)).length := ((List.dropLast_sublist l).filter _).length_le
theorem fil_tl {l : List FL} : (l.tail.filter fun f => decide (f.1 14 = 113)).length ≤ (l.filter fun f => decide (f.1 14 = 113)).length := ((List.tail_sublist l).filter _).length_le
theorem cntD_tl {l : List FL} (h0 : 0 < l.length) : cntD l = (if (l.getD 0 FL0).1 12 = -1 then 0 else 1) + cntD l.tail := by
  cases l with
  | nil => exact absurd h0 (by decide)
  | cons a t => rfl
theorem ki_iK (w : KI N A) {f : FL} (hf : f.1 1 = nI (ix (f.1 1)) ∧ ix (f.1 1) < ix (aS A 0)) (k : Nat) (h1 : 1 ≤ k) (h2 : k ≤ 3) : ∃ n, n < 8 ∧ iK A k f = nI n := (w.p _ hf.2).1 k h1 h2
theorem ki_undo (w : KI N A) (h0 : 0 < (aBuf A).length) : KI N (aUndo (gB A ((aBuf A).length - 1)) (wBuf A (aBuf A).dropLast)) := by
  have ml : gB A ((aBuf A).length - 1) ∈ aBuf A := gB_mem (by omega)
  have b := (w.b _ ml).2.2.1
  have hc := cntD_dl h0
  have hn := w.n
  have hx : (aBuf A).dropLast.length ≤ (aBuf A).length := by rw [List.length_dropLast]; omega
  have em : ((aBuf A).getD ((aBuf A).length - 1) FL0) = gB A ((aBuf A).length - 1) := rfl
  rw [em] at hc
  unfold aUndo
  split
  · rename_i d
    rw [if_pos d] at hc
    exact (w.lt (l := aFree A) (fun f hf => mem_dl hf) hx fil_dl (by omega)).sc (by decide)
  · rename_i d
    rw [if_neg d] at hc
    have w1 := w.lt (l := aFree A ++ [(gB A ((aBuf A).length - 1)).1 12]) (fun f hf => mem_dl hf) hx fil_dl (by rw [List.length_append]; simp; omega)
    exact (w1.sc (k := 34) (v := aS A 34 + 1) (by decide)).ar (k := 11) (by decide) (fun _ => b d)
theorem ki_thrL : ∀ (n : Nat) (A : AS), KI N A → n ≤ (aBuf A).length → KI N (aThrLoop n A)
  | 0, A, w, _ => w
  | n + 1, A, w, h => by
    show KI N (aThrLoop n (aUndo (gB A ((aBuf A).length - 1)) (wBuf A (aBuf A).dropLast)))
    refine ki_thrL n _ (ki_undo w (by omega)) ?_
    rw [aUndo_buf.1]
    show n ≤ (aBuf A).dropLast.length
    rw [List.length_dropLast]; omega
theorem ki_throw (w : KI N A) (i : Nat) : KI N (aThrow i A) := ki_thrL _ _ (w.li (l := []) (fun f hf => absurd hf (by simp))) (by show (aBuf A).length - i ≤ (aBuf A).length; omega)
theorem ki_throwAll (w : KI N A) : KI N (aThrowAll A) := (ki_throw w 0).re
/-! retiring -/
def aR2 (f : FL) (A : AS) : AS := if f.1 12 = -1 then A else wA (wFree A (aFree A ++ [aA A 12 (ix (iK A 1 f))])) 12 (ix (iK A 1 f)) (f.1 12)
def aR3 (f : FL) (A : AS) : AS := if cSto (cd A f) then wA A 3 (ix (f.1 17)) (stod (cd A f) (aA A 3 (ix (f.1 17))) (val A (f.1 11))) else A
def aR4 (f : FL) (A0 : AS) : AS :=
  let A := wS (aLearn f A0) 27 (f.1 19)
  let A := if cd A f = 21 then wS (wS (wS A 42 0) 27 (aS A 43)) 17 (aS A 43) else A
  wS A 29 (if cd A f = 18 then 1 else 0)
def aR1 (A0 : AS) : AS := wEnd (wBuf A0 (aBuf A0).tail) (aEnd A0 ++ [aEndOf 0 ((gB A0 0).1 1) (aS A0 26) (gB A0 0)])
theorem aRetire_eq : aRetire A = aR4 (gB A 0) (aR3 (gB A 0) (aR2 (gB A 0) (aR1 A))) := rfl
theorem ki_learn (w : KI N A) {f : FL} : KI N (aLearn f A) := by
  unfold aLearn
  dsimp only
  split
  · exact w.ar0 (by decide)
  · split
    · exact w.ar0 (by decide)
    · exact w
theorem ki_r4 (w : KI N A) {f : FL} : KI N (aR4 f A) := by
  unfold aR4
  dsimp only
  refine KI.sc ?_ (by decide)
  split
  · exact ((((ki_learn w).sc (k := 27) (by decide)).s42 (Or.inl rfl)).sc (by decide)).sc (by decide)
  · exact (ki_learn w).sc (by decide)
theorem ki_r3 (w : KI N A) {f : FL} : KI N (aR3 f A) := by
  unfold aR3
  split
  · exact w.ar0 (by decide)
  · exact w
theorem dOk_rg {f : FL} (h : dOk f) (d : f.1 12 ≠ -1) : rg (f.1 12) := h.resolve_left d
theorem ki_r2 (w : KI N A) (h0 : 0 < (aBuf A).length) : KI N (aR2 (gB A 0) (aR1 A)) := by
  have ml : gB A 0 ∈ aBuf A := gB_mem h0
  have b := w.b _ ml
  have hc := cntD_tl h0
  have hn := w.n
  have hx : (aBuf A).tail.length ≤ (aBuf A).length := by rw [List.length_tail]; omega
  have em : (aBuf A).getD 0 FL0 = gB A 0 := rfl
  rw [em] at hc
  unfold aR2
  split
  · rename_i d
    rw [if_pos d] at hc
    exact (w.lt (l := aFree A) (fun f hf => List.mem_of_mem_tail hf) hx fil_tl (by omega)).en
  · rename_i d
    rw [if_neg d] at hc
    have w1 := w.lt (l := aFree A ++ [aA A 12 (ix (iK A 1 (gB A 0)))]) (fun f hf => List.mem_of_mem_tail hf) hx fil_tl (by rw [List.length_append]; simp; omega)
    exact (w1.en (l := aEnd A ++ [aEndOf 0 ((gB A 0).1 1) (aS A 26) (gB A 0)])).ar (k := 12) (by decide) (fun _ => dOk_rg b.1.1 d)
theorem ki_retire (w : KI N A) (h0 : 0 < (aBuf A).length) : KI N (aRetire A) := by
  rw [aRetire_eq]
  exact ki_r4 (ki_r3 (ki_r2 w h0))
theorem ki_lose (w : KI N A) {k : Nat} : KI N (aLose k A) := w.ar0 (by decide)
theorem ki_takeInt (w : KI N A) : KI N (aTakeInt A) := by
  unfold aTakeInt
  dsimp only
  exact ((((ki_throwAll ((w.s28 (Or.inl rfl)).en)).s42 (Or.inr rfl)).sc (by decide)).sc (by decide)).sc (by decide)
theorem ki_takeTrap (w : KI N A) {t : Int32} : KI N (aTakeTrap t A) := by
  unfold aTakeTrap
  dsimp only
  have w1 : KI N (aThrowAll (wEnd A (aEnd A ++ [aEndOf t ((gB A 0).1 1) (aS A 26) (gB A 0)]))) := ki_throwAll w.en
  refine ((KI.sc ?_ (by decide)).sc (by decide)).sc (by decide)
  split
  · exact w1
  · exact (w1.s42 (Or.inr rfl)).sc (by decide)
end KIS

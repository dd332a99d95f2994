/-! RK WITH THE QUEUE: printed by mk65.py -/
set_option maxRecDepth 100000
def RQ (h : zH) (p ic e0 sp : Nat) (A : AS) (bq lq pl el : List Nat) : Prop := RK h p ic e0 sp A bq lq pl el ∧ LQ h p (qsOf bq (aBuf A))
section RQS
variable {h h' : zH} {p ic e0 sp : Nat} {A : AS} {bq lq pl el : List Nat}
theorem rq_its (w : RQ h p ic e0 sp A bq lq pl el) (c : Ch [(15, 58), (15, 59), (10, 59), (205, 59), (16, 54), (16, 57), (17, 54), (18, 52), (6, 1)] h h') : RQ h' p ic e0 sp A bq lq pl el := ⟨rk_its w.1 (c.sub (by decide)), w.2.keep c.cg (by decide)⟩
theorem rq_wS (w : RQ h p ic e0 sp A bq lq pl el) {k : Nat} {v : Int32} (hk : k ∈ skl) : RQ (sI h 1 1 k p v) p ic e0 sp (wS A k v) bq lq pl el := ⟨rk_wS w.1 hk, w.2.keep (Cg.wI : Cg [(1, 1)] [] [] h (sI h 1 1 k p v)) (by decide)⟩
theorem rq_w18 (w : RQ h p ic e0 sp A bq lq pl el) {v : Int64} {n : Int32} (hv : v = n.toInt64) : RQ (sL h 1 1 18 p v) p ic e0 sp (wS A 18 n) bq lq pl el := ⟨rk_w18 w.1 hv, w.2.keep (Cg.wL : Cg [] [] [(1, 1)] h (sL h 1 1 18 p v)) (by decide)⟩
theorem rq_w36 (w : RQ h p ic e0 sp A bq lq pl el) {v : Int64} {n : Int32} (hv : v = (aS (wS A 36 n) 36).toInt64 + 1000 * (aS (wS A 36 n) 37).toInt64) : RQ (sL h 1 1 36 p v) p ic e0 sp (wS A 36 n) bq lq pl el := ⟨rk_w36 w.1 hv, w.2.keep (Cg.wL : Cg [] [] [(1, 1)] h (sL h 1 1 36 p v)) (by decide)⟩
theorem rq_w37 (w : RQ h p ic e0 sp A bq lq pl el) {v : Int64} {n : Int32} (hv : v = (aS (wS A 37 n) 36).toInt64 + 1000 * (aS (wS A 37 n) 37).toInt64) : RQ (sL h 1 1 36 p v) p ic e0 sp (wS A 37 n) bq lq pl el := ⟨rk_w37 w.1 hv, w.2.keep (Cg.wL : Cg [] [] [(1, 1)] h (sL h 1 1 36 p v)) (by decide)⟩
theorem rq_w3 (w : RQ h p ic e0 sp A bq lq pl el) {j : Nat} {v : Int32} (hj : j < 4) : RQ (sI h 2 1 j (zR h 1 1 4 p) v) p ic e0 sp (wS A (40 + j) v) bq lq pl el := ⟨rk_w3 w.1 hj, w.2.keep (Cg.wI : Cg [(2, 1)] [] [] h (sI h 2 1 j (zR h 1 1 4 p) v)) (by decide)⟩
theorem rq_set10 (w : RQ h p ic e0 sp A bq lq pl el) {j : Nat} (c : Ch [(11, 51), (203, 51)] h h') (hb : BS h' 51 (zR h 1 1 10 p) (fun k => if k = j then true else decide (aA A 10 k = 1))) : RQ h' p ic e0 sp (wA A 10 j 1) bq lq pl el := ⟨rk_set10 w.1 c hb, w.2.keep c.cg (by decide)⟩
theorem rq_clr10 (w : RQ h p ic e0 sp A bq lq pl el) {j : Nat} (c : Ch [(11, 51), (203, 51)] h h') (hb : BS h' 51 (zR h 1 1 10 p) (fun k => if k = j then false else decide (aA A 10 k = 1))) : RQ h' p ic e0 sp (wA A 10 j 0) bq lq pl el := ⟨rk_clr10 w.1 c hb, w.2.keep c.cg (by decide)⟩
theorem rq_set22 (w : RQ h p ic e0 sp A bq lq pl el) {j : Nat} (c : Ch [(11, 56), (203, 56)] h h') (hb : BS h' 56 (zR h 1 1 22 p) (fun k => if k = j then true else decide (aA A 22 k = 1))) : RQ h' p ic e0 sp (wA A 22 j 1) bq lq pl el := ⟨rk_set22 w.1 c hb, w.2.keep c.cg (by decide)⟩
theorem rq_set5 (w : RQ h p ic e0 sp A bq lq pl el) {l : List Int32} (c : Ch [(12, 52), (205, 52)] h h') (n : G5 h' p ic l) : RQ h' p ic e0 sp (wFree A l) bq lq pl el := ⟨rk_set5 w.1 c n, w.2.keep c.cg (by decide)⟩
theorem rq_set6 (w : RQ h p ic e0 sp A bq lq pl el) {l : List FL} {lq' : List Nat} (c : Ch [(12, 53), (205, 53)] h h') (n : G6 h' p lq') (f : FQ h pl lq' l) (n2 : (bq ++ lq').Nodup) (n3 : lq'.length ≤ 8) (n4 : GD h el bq lq') : RQ h' p ic e0 sp (wLine A l) bq lq' pl el := ⟨rk_set6 w.1 c n f n2 n3 n4, w.2.keep c.cg (by decide)⟩
theorem rq_set8 (w : RQ h p ic e0 sp A bq lq pl el) {l : List (Int32 × Int32)} (c : Ch [(13, 57), (14, 57), (16, 57), (7, 1)] h h') (n : G8 h' p l) : RQ h' p ic e0 sp (wAsk A l) bq lq pl el := ⟨rk_set8 w.1 c n, w.2.keep c.cg (by decide)⟩
theorem rq_set9 (w : RQ h p ic e0 sp A bq lq pl el) {l : List (Nat → Int32)} {el' : List Nat} (c : Ch [(10, 58), (205, 58), (5, 1)] h h') (n : G9 h' p e0 el' l) (n2 : GD h' el' bq lq) : RQ h' p ic e0 sp (wEnd A l) bq lq pl el' := ⟨rk_set9 w.1 c n n2, w.2.keep c.cg (by decide)⟩
theorem rq_wA {k j : Nat} {v : Int32} (w : RQ h p ic e0 sp A bq lq pl el) (hk : aln k ≠ 0) : RQ (sI h 201 (10 + k) j (zR h 1 1 k p) v) p ic e0 sp (wA A k j v) bq lq pl el := by
  refine ⟨rk_wA w.1 hk, ?_⟩
  have c : Cg [(201, 10 + k)] [] [] h (sI h 201 (10 + k) j (zR h 1 1 k p) v) := Cg.wI
  obtain ⟨ns, a⟩ := w.2
  exact ⟨ns, a.keepg c (by simp) (by simp) (by simp)⟩
theorem rq_set11 {l : List Int32} {x : Nat} (w : RQ h p ic e0 sp A bq lq pl el) (n : RT h x l) : RQ (sR h 1 1 19 p x) p ic e0 sp (wRet A l) bq lq pl el := by
  refine ⟨rk_set11 w.1 n, ?_⟩
  have c : Cg [] [(1, 1)] [] h (sR h 1 1 19 p x) := Cg.wR
  obtain ⟨ns, a⟩ := w.2
  unfold LQ
  rw [rRw, if_neg (by simp)]
  exact ⟨ns, a.keepg c (by decide) (by decide) (by decide)⟩
theorem rq_wF {i k : Nat} {v : Int32} (w : RQ h p ic e0 sp A bq lq pl el) (hi : i < bq.length) (hk : k ∈ fkl) (h1 : k ≠ 1) (h2 : k ≠ 14 ∨ (v ≠ 113 ∧ (gB A i).1 14 ≠ 113)) : RQ (sI h 8 1 k (bq.getD i 0) v) p ic e0 sp (upB A i (uF (gB A i) k v)) bq lq pl el := by
  refine ⟨rk_wF w.1 hi hk h1, ?_⟩
  have c : Cg [(8, 1)] [] [] h (sI h 8 1 k (bq.getD i 0) v) := Cg.wI
  have e : qsOf bq (aBuf (upB A i (uF (gB A i) k v))) = qsOf bq (aBuf A) := by
    refine qsOf_set bq (aBuf A) i _ ?_
    show pu (gB A i).1 k v 14 = 113 ↔ (gB A i).1 14 = 113
    rcases h2 with h2 | ⟨h2, h3⟩
    · rw [pu_ne (Ne.symm h2)]
    · by_cases e : k = 14
      · subst e; rw [pu_at]; exact ⟨fun z => absurd z h2, fun z => absurd z h3⟩
      · rw [pu_ne (fun z => e z.symm)]
  rw [e]
  exact w.2.keep c (by decide)
theorem gB_up {i : Nat} {f : FL} (hi : i < (aBuf A).length) : gB (upB A i f) i = f := by
  show ((aBuf A).set i f).getD i FL0 = f
  rw [getD_set hi, if_pos rfl]
theorem gB_ne {i j : Nat} {f : FL} (hi : i < (aBuf A).length) (hj : j ≠ i) : gB (upB A i f) j = gB A j := by
  show ((aBuf A).set i f).getD j FL0 = _
  rw [getD_set hi, if_neg hj]; rfl
theorem up_up {i : Nat} {f g : FL} : upB (upB A i f) i g = upB A i g := by
  show wBuf A (((aBuf A).set i f).set i g) = wBuf A ((aBuf A).set i g)
  rw [List.set_set]
theorem up_len {i : Nat} {f : FL} : (aBuf (upB A i f)).length = (aBuf A).length := List.length_set
theorem rq_its' {m : List (Nat × Nat)} (w : RQ h p ic e0 sp A bq lq pl el) (c : Ch m h h') (e : ∀ x ∈ m, x ∈ [(15, 58), (15, 59), (10, 59), (205, 59), (16, 54), (16, 57), (17, 54), (18, 52), (6, 1)]) : RQ h' p ic e0 sp A bq lq pl el := rq_its w (c.sub e)
end RQS

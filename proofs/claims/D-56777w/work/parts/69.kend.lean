/-! ENDINGS -/
set_option maxRecDepth 100000
/-- what a flight's ints are -/
def fB (A : AS) (f : FL) : Prop := dOk f ∧ (∃ n, n < 24 ∧ f.1 10 = nI n) ∧ (∃ n, n < 24 ∧ f.1 11 = nI n) ∧ 0 ≤ f.1 3 ∧ (f.1 21 = -1 ∨ 0 ≤ f.1 21) ∧ (cRes (cd A f) → f.1 12 ≠ -1) ∧ (f.1 14 = 98 → f.1 12 ≠ -1)
def bOk (A : AS) : Prop := InvP A ∧ (∀ f ∈ aBuf A, fB A f) ∧ (aFree A).length + cntD (aBuf A) ≤ 16
theorem bOk.th {A : AS} (b : bOk A) : thOk A := ⟨b.1, fun f hf => (b.2.1 f hf).1, b.2.2⟩
theorem InvP.eq {A B : AS} (w : InvP A) (e0 : aS B 0 = aS A 0) (ea : ∀ k, aA B (50 + k) = aA A (50 + k)) : InvP B := fun i hi => by
  rw [e0] at hi
  have := w i hi
  rw [show aA B 50 = aA A 50 from ea 0, show aA B 54 = aA A 54 from ea 4]
  exact ⟨fun j h1 h2 => by rw [ea]; exact this.1 j h1 h2, this.2⟩
theorem thOk.eq {A B : AS} (w : thOk A) (e0 : aS B 0 = aS A 0) (ea : ∀ k, aA B (50 + k) = aA A (50 + k)) (eb : aBuf B = aBuf A) (ef : aFree B = aFree A) : thOk B := ⟨w.1.eq e0 ea, by rw [eb]; exact w.2.1, by rw [ef, eb]; exact w.2.2⟩
theorem uF_ne {f : FL} {k j : Nat} {v : Int32} (h : j ≠ k) : (uF f k v).1 j = f.1 j := pu_ne h
theorem uF_at {f : FL} {k : Nat} {v : Int32} : (uF f k v).1 k = v := pu_at f.1 k v
abbrev ME : List (Nat × Nat) := (11, 56) :: (203, 56) :: (12, 53) :: (205, 53) :: MT
/-- a suffix of the buffer is gone, and flagged -/
def Cut (h h' : zH) (bq bq' : List Nat) : Prop := (∃ m, bq' = bq.take m ∧ ∀ i, i < bq.length → m ≤ i → zI h' 8 1 22 (bq.getD i 0) = 1) ∧ Fg h h'
theorem Cut.rf {h h' : zH} {bq : List Nat} (g : Fg h h') : Cut h h' bq bq := ⟨⟨bq.length, List.take_length.symm, fun i h1 h2 => by omega⟩, g⟩
theorem Fg.ch {h h' : zH} {m : List (Nat × Nat)} (c : Ch m h h') (e : (8, 1) ∉ m) : Fg h h' := fun x hx => by rw [c.i e]; exact hx
theorem Fg.rf {h : zH} : Fg h h := fun _ z => z
theorem Fg.tr {h0 h1 h2 : zH} (a : Fg h0 h1) (b : Fg h1 h2) : Fg h0 h2 := fun x hx => b x (a x hx)
theorem Fg.w {h h' : zH} {k q : Nat} {v : Int32} (a : Fg h h') (hk : k ≠ 22) : Fg h (sI h' 8 1 k q v) := fun x hx => by rw [rIw, if_neg (fun z => hk z.2.2.1.symm)]; exact a x hx
theorem Fg.o {h h' : zH} {c r k q : Nat} {v : Int32} (a : Fg h h') (hc : c ≠ 8) : Fg h (sI h' c r k q v) := fun x hx => by rw [rIw, if_neg (fun z => hc z.1.symm)]; exact a x hx
theorem Fg.r {h h' : zH} {c r k q x' : Nat} (a : Fg h h') : Fg h (sR h' c r k q x') := fun x hx => a x hx
theorem Cut.pre {h h1 h' : zH} {bq bq' : List Nat} (a : Fg h h1) (c : Cut h1 h' bq bq') : Cut h h' bq bq' := ⟨c.1, a.tr c.2⟩
section KEND
variable {ic e0 sp p : Nat} {h : zH} {A : AS} {bq lq pl el : List Nat}
theorem gB_mem {i : Nat} (hi : i < (aBuf A).length) : gB A i ∈ aBuf A := by
  show (aBuf A).getD i FL0 ∈ aBuf A
  rw [getD_lt hi]; exact List.getElem_mem hi
theorem rq_fB (w : RQ h p ic e0 sp A bq lq pl el) (b : bOk A) {i : Nat} (hi : i < bq.length) : fB A (gB A i) := b.2.1 _ (gB_mem (by rw [← rq_len w]; exact hi))
theorem rq_ins (w : RQ h p ic e0 sp A bq lq pl el) {i : Nat} (hi : i < bq.length) : zK h (zR h 8 1 0 (bq.getD i 0)) = (4, 1) ∧ (∀ j, j < 5 → zI h 4 1 j (zR h 8 1 0 (bq.getD i 0)) = iK A j (gB A i)) := by
  obtain ⟨k1, k2, -⟩ := fr_ins (rq_fr w hi) (rk_g10 w.1)
  exact ⟨k1, k2⟩
theorem early_l {i0 it bl : Nat} {ns : List Nat} (b : bOk A) (hi0 : i0 < bq.length) : ∀ (n i : Nat) (h : zH) (lr : Nat), RQ h p ic e0 sp A bq lq pl el → LL h 54 bl bq ns → IT h 54 it bl ns i lr → i ≤ bq.length → bq.length < n + i →
    ∃ h', j_X1_firstTooEarly_l8 n h (bq.getD i0 0) it = some (h', match aFirstL A (gB A i0) (bq.length - i) i with | none => 0 | some j => bq.getD j 0) ∧ Ch [(16, 54)] h h'
  | 0, i, h, lr, w, wl, v, h1, h2 => by omega
  | n + 1, i, h, lr, w, wl, v, h1, h2 => by
    show ∃ h', j_X1_firstTooEarly_b8 (j_X1_firstTooEarly_l8 n) h (bq.getD i0 0) it = some (h', _) ∧ _
    have hn := it_hasNext wl v h1
    by_cases c : i < bq.length
    · rw [if_pos c] at hn
      obtain ⟨h1', e1, wl1, v1, c1⟩ := it_next wl v (by decide) c
      have w1 := rq_its' w c1 (by decide)
      have f := rq_fr w1 c
      have s := rq_fr w1 hi0
      have bf := rq_fB w1 b c
      have bs := rq_fB w1 b hi0
      have hs : bq.length - i = (bq.length - (i + 1)) + 1 := by omega
      have older := x10_older s.1 f.1 s.2.2.2.1 f.2.2.2.1 bs.2.2.2.1 bf.2.2.2.1
      obtain ⟨ki, kv⟩ := rq_ins w1 c
      have e8 := fr_i f (k := 8) (by decide)
      have e16 := fr_i f (k := 16) (by decide)
      have e17 := fr_i f (k := 17) (by decide)
      have s17 := fr_i s (k := 17) (by decide)
      have begun : j_X8_hasBegunLoadOf h1' (bq.getD i 0) ((gB A i0).1 17) = some (h1', if cd A (gB A i) = 9 ∧ (gB A i).1 8 ≠ -1 ∧ (gB A i).1 16 = 0 ∧ (gB A i).1 17 = (gB A i0).1 17 then 1 else 0) := by
        simp only [j_X8_hasBegunLoadOf, j_X8_hasBegunLoadOf_j39, j_X8_hasBegunLoadOf_j40, gd_true, ult, ubd, ukd, uwr, url, unz, uhI, uhR, uhL, upI, upR, upL, eKI, eKR, eKL, eNI, eNR, eNL, eTI, eTR, eTL, eIR, eIL, eRI, eRL, eLI, eLR, rIw, rRw, rLw, decide_true, decide_false, ne_eq, not_false_eq_true, not_true_eq_false, true_and, and_true, and_false, false_and, and_self, if_true, if_false, reduceIte, Nat.reduceEqDiff, decide_not, Bool.not_true, Bool.not_false, f.1, ki, kv 0 (by decide), e8, e16, e17]
        by_cases d1 : cd A (gB A i) = 9
        · rw [if_pos d1]
          by_cases d2 : (gB A i).1 8 = -1
          · rw [if_pos d2, if_neg (fun z => z.2.1 d2)]; simp [b01, gd]
          · rw [if_neg d2]
            by_cases d3 : (gB A i).1 16 = 0
            · rw [if_pos d3]
              by_cases d4 : (gB A i).1 17 = (gB A i0).1 17
              · rw [if_pos d4, if_pos ⟨d1, d2, d3, d4⟩]; simp [b01, gd]
              · rw [if_neg d4, if_neg (fun z => d4 z.2.2.2)]; simp [b01, gd]
            · rw [if_neg d3, if_neg (fun z => d3 z.2.2.1)]; simp [b01, gd]
        · rw [if_neg d1, if_neg (fun z => d1 z.1)]; simp [b01, gd]
      obtain ⟨h', f1, f3⟩ := early_l b hi0 n (i + 1) h1' _ w1 wl1 v1 (by omega) (by omega)
      have hA : aFirstL A (gB A i0) (bq.length - i) i = if aEarly A (gB A i0) (gB A i) then some i else aFirstL A (gB A i0) (bq.length - (i + 1)) (i + 1) := by rw [hs]; rfl
      rw [hA]
      have z10 : ¬ (1 : Int32) = 0 := by decide
      by_cases d1 : (gB A i0).1 3 < (gB A i).1 3
      · by_cases d2 : cd A (gB A i) = 9 ∧ (gB A i).1 8 ≠ -1 ∧ (gB A i).1 16 = 0 ∧ (gB A i).1 17 = (gB A i0).1 17
        · rcases f.2.2.2.2.2.2.2 with ⟨t1, t2⟩ | ⟨t1, t2, t3⟩
          · rw [if_pos ⟨d1, d2.1, d2.2.1, d2.2.2.1, d2.2.2.2, Or.inl t1⟩]
            refine ⟨h1', ?_, c1⟩
            simp only [j_X1_firstTooEarly_b8, j_X1_firstTooEarly_j64, hn, e1, gd_true, ult, ubd, ukd, uwr, url, unz, uhI, uhR, uhL, upI, upR, upL, eKI, eKR, eKL, eNI, eNR, eNL, eTI, eTR, eTL, eIR, eIL, eRI, eRL, eLI, eLR, rIw, rRw, rLw, decide_true, decide_false, ne_eq, not_false_eq_true, not_true_eq_false, true_and, and_true, and_false, false_and, and_self, if_true, if_false, reduceIte, Nat.reduceEqDiff, decide_not, Bool.not_true, Bool.not_false, v.1, f.1, s.1, older, if_pos d1, s17, begun, if_pos d2, if_neg z10, t2]
          · have t21 : 0 ≤ (gB A i).1 21 := bf.2.2.2.2.1.resolve_left t1
            have older2 := x10_older t2 s.1 t3 s.2.2.2.1 t21 bs.2.2.2.1
            have tn : ¬ zR h1' 8 1 21 (bq.getD i 0) = 0 := wf_n0 (rq_wf w1) t2 (by decide)
            by_cases d3 : (gB A i).1 21 < (gB A i0).1 3
            · rw [if_pos ⟨d1, d2.1, d2.2.1, d2.2.2.1, d2.2.2.2, Or.inr d3⟩]
              refine ⟨h1', ?_, c1⟩
              simp only [j_X1_firstTooEarly_b8, j_X1_firstTooEarly_j64, hn, e1, gd_true, ult, ubd, ukd, uwr, url, unz, uhI, uhR, uhL, upI, upR, upL, eKI, eKR, eKL, eNI, eNR, eNL, eTI, eTR, eTL, eIR, eIL, eRI, eRL, eLI, eLR, rIw, rRw, rLw, decide_true, decide_false, ne_eq, not_false_eq_true, not_true_eq_false, true_and, and_true, and_false, false_and, and_self, if_true, if_false, reduceIte, Nat.reduceEqDiff, decide_not, Bool.not_true, Bool.not_false, v.1, f.1, s.1, older, if_pos d1, s17, begun, if_pos d2, if_neg z10, if_neg tn, t2, older2, if_pos d3]
            · rw [if_neg (fun z => z.2.2.2.2.2.elim t1 d3)]
              refine ⟨h', ?_, c1.tr f3⟩
              simp only [j_X1_firstTooEarly_b8, j_X1_firstTooEarly_j64, j_X1_firstTooEarly_j66, hn, e1, gd_true, ult, ubd, ukd, uwr, url, unz, uhI, uhR, uhL, upI, upR, upL, eKI, eKR, eKL, eNI, eNR, eNL, eTI, eTR, eTL, eIR, eIL, eRI, eRL, eLI, eLR, rIw, rRw, rLw, decide_true, decide_false, ne_eq, not_false_eq_true, not_true_eq_false, true_and, and_true, and_false, false_and, and_self, if_true, if_false, reduceIte, Nat.reduceEqDiff, decide_not, Bool.not_true, Bool.not_false, v.1, f.1, s.1, older, if_pos d1, s17, begun, if_pos d2, if_neg z10, if_neg tn, t2, older2, if_neg d3]
              exact f1
        · rw [if_neg (fun z => d2 ⟨z.2.1, z.2.2.1, z.2.2.2.1, z.2.2.2.2.1⟩)]
          refine ⟨h', ?_, c1.tr f3⟩
          simp only [j_X1_firstTooEarly_b8, j_X1_firstTooEarly_j66, hn, e1, gd_true, ult, ubd, ukd, uwr, url, unz, uhI, uhR, uhL, upI, upR, upL, eKI, eKR, eKL, eNI, eNR, eNL, eTI, eTR, eTL, eIR, eIL, eRI, eRL, eLI, eLR, rIw, rRw, rLw, decide_true, decide_false, ne_eq, not_false_eq_true, not_true_eq_false, true_and, and_true, and_false, false_and, and_self, if_true, if_false, reduceIte, Nat.reduceEqDiff, decide_not, Bool.not_true, Bool.not_false, v.1, f.1, s.1, older, if_pos d1, s17, begun, if_neg d2, if_neg z10]
          exact f1
      · rw [if_neg (fun z => d1 z.1)]
        refine ⟨h', ?_, c1.tr f3⟩
        simp only [j_X1_firstTooEarly_b8, j_X1_firstTooEarly_j66, hn, e1, gd_true, ult, ubd, ukd, uwr, url, unz, uhI, uhR, uhL, upI, upR, upL, eKI, eKR, eKL, eNI, eNR, eNL, eTI, eTR, eTL, eIR, eIL, eRI, eRL, eLI, eLR, rIw, rRw, rLw, decide_true, decide_false, ne_eq, not_false_eq_true, not_true_eq_false, true_and, and_true, and_false, false_and, and_self, if_true, if_false, reduceIte, Nat.reduceEqDiff, decide_not, Bool.not_true, Bool.not_false, v.1, f.1, s.1, older, if_neg d1, if_neg z10]
        exact f1
    · rw [if_neg c] at hn
      have hs : bq.length - i = 0 := by omega
      rw [hs]
      refine ⟨h, ?_, Ch.rf⟩
      simp only [j_X1_firstTooEarly_b8, hn, gd_true, ult, ubd, ukd, uwr, url, unz, uhI, uhR, uhL, upI, upR, upL, eKI, eKR, eKL, eNI, eNR, eNL, eTI, eTR, eTL, eIR, eIL, eRI, eRL, eLI, eLR, rIw, rRw, rLw, decide_true, decide_false, ne_eq, not_false_eq_true, not_true_eq_false, true_and, and_true, and_false, false_and, and_self, if_true, if_false, reduceIte, Nat.reduceEqDiff, decide_not, Bool.not_true, Bool.not_false, v.1]
      rfl
theorem aFirstL_lt {s : FL} : ∀ (n i j : Nat), aFirstL A s n i = some j → j < n + i
  | 0, i, j, e => by cases e
  | n + 1, i, j, e => by
    have e : (if aEarly A s (gB A i) then some i else aFirstL A s n (i + 1)) = some j := e
    split at e
    · cases e; omega
    · have := aFirstL_lt n (i + 1) j e; omega
theorem k_first (w : RQ h p ic e0 sp A bq lq pl el) (b : bOk A) {i0 : Nat} (hi0 : i0 < bq.length) : ∃ h', j_X1_firstTooEarly h p (bq.getD i0 0) = some (h', match aFirst A (gB A i0) with | none => 0 | some j => bq.getD j 0) ∧ Ch [(16, 54)] h h' := by
  obtain ⟨ns, wl⟩ := rq_buf w
  have hb := rk_lb w.1
  obtain ⟨h1, it, e1, wl1, v1, c1⟩ := ll_iterator wl (rq_wf w) (by decide) (by omega)
  have w1 := rq_its' w c1 (by decide)
  obtain ⟨h', f1, f3⟩ := early_l b hi0 18 0 h1 0 w1 wl1 v1 (by omega) (by omega)
  refine ⟨h', ?_, c1.tr f3⟩
  simp only [j_X1_firstTooEarly, gd_true, ult, ubd, ukd, uwr, url, unz, uhI, uhR, uhL, upI, upR, upL, eKI, eKR, eKL, eNI, eNR, eNL, eTI, eTR, eTL, eIR, eIL, eRI, eRL, eLI, eLR, rIw, rRw, rLw, decide_true, decide_false, ne_eq, not_false_eq_true, not_true_eq_false, true_and, and_true, and_false, false_and, and_self, if_true, if_false, reduceIte, Nat.reduceEqDiff, decide_not, Bool.not_true, Bool.not_false, rq_k w, wl.1, e1]
  rw [f1]
  unfold aFirst
  rw [Nat.sub_zero, rq_len w]
theorem rq_bit22 (w : RQ h p ic e0 sp A bq lq pl el) {j : Nat} (hj : j < 24) : ∃ h', j_J3_set h (zR h 1 1 22 p) (nI j) = some h' ∧ RQ h' p ic e0 sp (wA A 22 j 1) bq lq pl el ∧ Ch [(11, 56), (203, 56)] h h' := by
  obtain ⟨h', a1, a2, a3⟩ := bs_set (rk_g4 w.1).2 (by decide) hj
  exact ⟨h', a1, rq_set22 w a3 a2, a3⟩
theorem rq_bit10 (w : RQ h p ic e0 sp A bq lq pl el) {j : Nat} (hj : j < 24) : ∃ h', j_J3_set h (zR h 1 1 10 p) (nI j) = some h' ∧ RQ h' p ic e0 sp (wA A 10 j 1) bq lq pl el ∧ Ch [(11, 51), (203, 51)] h h' := by
  obtain ⟨h', a1, a2, a3⟩ := bs_set (rk_g4 w.1).1 (by decide) hj
  exact ⟨h', a1, rq_set10 w a3 a2, a3⟩
theorem rq_place (w : RQ h p ic e0 sp A bq lq pl el) {i : Nat} (hi : i < bq.length) : ∃ n, n < 64 ∧ (gB A i).1 1 = nI n := by
  obtain ⟨-, -, k3, k4⟩ := fr_ins (rq_fr w hi) (rk_g10 w.1)
  exact ⟨_, by have := (rk_g10 w.1).2.1; omega, k4⟩
theorem thOk_up {i : Nat} {f : FL} (t : thOk A) (hi : i < (aBuf A).length) (e : f.1 12 = (gB A i).1 12) : thOk (upB A i f) := by
  refine ⟨t.1, fun g hg => ?_, ?_⟩
  · rcases List.mem_or_eq_of_mem_set (show g ∈ (aBuf A).set i f from hg) with z | z
    · exact t.2.1 g z
    · rw [z]; unfold dOk; rw [e]; exact t.2.1 _ (gB_mem hi)
  · have : ∀ (l : List FL) (i : Nat), f.1 12 = (l.getD i FL0).1 12 → cntD (l.set i f) = cntD l := by
      intro l
      induction l with
      | nil => intro i _; rfl
      | cons g t ih =>
        intro i h
        cases i with
        | zero =>
          have h : f.1 12 = g.1 12 := h
          show (if f.1 12 = -1 then 0 else 1) + cntD t = (if g.1 12 = -1 then 0 else 1) + cntD t
          rw [h]
        | succ i =>
          have h : f.1 12 = (t.getD i FL0).1 12 := h
          show (if g.1 12 = -1 then 0 else 1) + cntD (t.set i f) = (if g.1 12 = -1 then 0 else 1) + cntD t
          rw [ih i h]
    show (aFree A).length + cntD ((aBuf A).set i f) ≤ 16
    rw [this _ _ e]
    exact t.2.2
/-- a store ends -/
theorem k_endStore (w : RQ h p ic e0 sp A bq lq pl el) (b : bOk A) {i0 : Nat} (hi0 : i0 < bq.length) : ∃ h' bq' lq', j_X1_endStore h p (bq.getD i0 0) ic = some h' ∧ RQ h' p ic e0 sp (aEndStore i0 A) bq' lq' pl el ∧ Cut h h' bq bq' ∧ Ch ME h h' := by
  have f := rq_fr w hi0
  have e17 := fr_i f (k := 17) (by decide)
  by_cases d : isAd ((gB A i0).1 17)
  · obtain ⟨h1, e1, c1⟩ := k_first w b hi0
    have w1 := rq_its' w c1 (by decide)
    cases hj : aFirst A (gB A i0) with
    | none =>
      rw [hj] at e1
      refine ⟨h1, bq, lq, ?_, ?_, Cut.rf (Fg.ch c1 (by decide)), c1.sub (by simp)⟩
      · simp only [j_X1_endStore, j_X1_endStore_j72, gd_true, ult, ubd, ukd, uwr, url, unz, uhI, uhR, uhL, upI, upR, upL, eKI, eKR, eKL, eNI, eNR, eNL, eTI, eTR, eTL, eIR, eIL, eRI, eRL, eLI, eLR, rIw, rRw, rLw, decide_true, decide_false, ne_eq, not_false_eq_true, not_true_eq_false, true_and, and_true, and_false, false_and, and_self, if_true, if_false, reduceIte, Nat.reduceEqDiff, decide_not, Bool.not_true, Bool.not_false, f.1, e17, k_addr, if01, if_neg (fun z => z d : ¬ ¬ isAd ((gB A i0).1 17)), rq_k w, e1]
      · unfold aEndStore; simp only [if_neg (fun z => z d : ¬ ¬ isAd ((gB A i0).1 17)), hj]; exact w1
    | some j =>
      rw [hj] at e1
      have hjl : j < bq.length := by
        have := aFirstL_lt _ _ _ hj
        rw [rq_len w]; omega
      have fj := rq_fr w1 hjl
      have jn : ¬ bq.getD j 0 = 0 := wf_n0 (rq_wf w1) fj.1 (by decide)
      obtain ⟨n, n1, n2⟩ := rq_place w1 hjl
      have s33 := rq_s w1 (k := 33) (by decide)
      have w2 : RQ (sI h1 1 1 33 p (aS A 33 + 1)) p ic e0 sp (wS A 33 (aS A 33 + 1)) bq lq pl el := rq_wS w1 (by decide)
      have e9 : irm ((gB A j).1 1) 16 = nI (n % 16) := by rw [n2]; exact irm_nI (by omega) (by decide) (by decide)
      obtain ⟨h3, e3, w3, c3⟩ := rq_bit22 w2 (j := n % 16) (by omega)
      have k22 : zK h1 (zR h1 1 1 22 p) = (11, 56) := (rk_g4 w1.1).2.1
      have fj3 : FR h3 pl (bq.getD j 0) (gB A j) := rq_fr w3 hjl
      have w4 := rq_set11 w3 (x := zR h3 8 1 4 (bq.getD j 0)) (l := (gB A j).2.1) fj3.2.2.2.2.1
      obtain ⟨h5, e5, w5, c5, i5, fl5⟩ := k_throw (ic := ic) (gi := 1) w4 (b.th.eq (show pu (aS A) 33 (aS A 33 + 1) 0 = aS A 0 from pu_ne (by decide)) (fun k => (show u2 (aA A) 22 (n % 16) 1 (50 + k) = aA A (50 + k) from u2_k (by omega))) rfl rfl) hjl
      rw [if_neg (by decide)] at w5
      have k5 : zK h5 (bq.getD j 0) = (8, 1) := c5.k (by exact fj3.1) (by decide)
      have p5 : zI h5 8 1 1 (bq.getD j 0) = (gB A j).1 1 := (i5.1 1 _ (by decide)).trans (fr_i fj3 (k := 1) (by decide))
      have w6 : RQ (sI h5 1 1 17 p ((gB A j).1 1)) p ic e0 sp _ (bq.take j) [] pl el := rq_wS w5 (by decide)
      refine ⟨sI h5 1 1 17 p ((gB A j).1 1), bq.take j, [], ?_, ?_, ⟨⟨j, rfl, fun i hi hj => by rw [rIw, if_neg (by simp)]; exact fl5 i hi (by rw [if_neg (by decide)]; exact hj)⟩, Fg.o ((((Fg.ch c1 (by decide)).o (by decide)).tr (Fg.ch c3 (by decide))).r.tr i5.2.1) (by decide)⟩, (((((c1.sub (by simp)).sI (by simp)).tr (c3.sub (by simp))).sR (by simp)).tr (c5.sub (by simp))).sI (by simp)⟩
      · have e3' : j_J3_set (sI h1 1 1 33 p (aS A 33 + 1)) (zR h1 1 1 22 p) (nI (n % 16)) = some h3 := e3
        simp only [j_X1_endStore, j_X1_endStore_j72, gd_true, ult, ubd, ukd, uwr, url, unz, uhI, uhR, uhL, upI, upR, upL, eKI, eKR, eKL, eNI, eNR, eNL, eTI, eTR, eTL, eIR, eIL, eRI, eRL, eLI, eLR, rIw, rRw, rLw, decide_true, decide_false, ne_eq, not_false_eq_true, not_true_eq_false, true_and, and_true, and_false, false_and, and_self, if_true, if_false, reduceIte, Nat.reduceEqDiff, decide_not, Bool.not_true, Bool.not_false, f.1, e17, k_addr, if01, if_neg (fun z => z d : ¬ ¬ isAd ((gB A i0).1 17)), rq_k w, e1, if_neg jn, rq_k w1, s33, fj.1, k22, fr_i fj (k := 1) (by decide)]
        rw [e9, e3']
        simp only [gd_true, ult, ubd, ukd, uwr, url, unz, uhI, uhR, uhL, upI, upR, upL, eKI, eKR, eKL, eNI, eNR, eNL, eTI, eTR, eTL, eIR, eIL, eRI, eRL, eLI, eLR, rIw, rRw, rLw, decide_true, decide_false, ne_eq, not_false_eq_true, not_true_eq_false, true_and, and_true, and_false, false_and, and_self, if_true, if_false, reduceIte, Nat.reduceEqDiff, decide_not, Bool.not_true, Bool.not_false, rq_k w3, fj3.1]
        rw [e5]
        simp only [gd_true, ult, ubd, ukd, uwr, url, unz, uhI, uhR, uhL, upI, upR, upL, eKI, eKR, eKL, eNI, eNR, eNL, eTI, eTR, eTL, eIR, eIL, eRI, eRL, eLI, eLR, rIw, rRw, rLw, decide_true, decide_false, ne_eq, not_false_eq_true, not_true_eq_false, true_and, and_true, and_false, false_and, and_self, if_true, if_false, reduceIte, Nat.reduceEqDiff, decide_not, Bool.not_true, Bool.not_false, rq_k w5, k5, p5]
      · unfold aEndStore
        simp only [if_neg (fun z => z d : ¬ ¬ isAd ((gB A i0).1 17)), hj]
        rw [e9, ix_nI (by omega)]
        exact w6
  · have w1 := rq_wF (v := 2) w hi0 (k := 16) (by decide) (by decide) (Or.inl (by decide))
    refine ⟨sI h 8 1 16 (bq.getD i0 0) 2, bq, lq, ?_, ?_, Cut.rf (Fg.rf.w (by decide)), Ch.rf.sI (by simp)⟩
    · simp only [j_X1_endStore, gd_true, ult, ubd, ukd, uwr, url, unz, uhI, uhR, uhL, upI, upR, upL, eKI, eKR, eKL, eNI, eNR, eNL, eTI, eTR, eTL, eIR, eIL, eRI, eRL, eLI, eLR, rIw, rRw, rLw, decide_true, decide_false, ne_eq, not_false_eq_true, not_true_eq_false, true_and, and_true, and_false, false_and, and_self, if_true, if_false, reduceIte, Nat.reduceEqDiff, decide_not, Bool.not_true, Bool.not_false, f.1, e17, k_addr, if01, if_pos d]
    · unfold aEndStore; simp only [if_pos d]; exact w1
theorem rq_val (w : RQ h p ic e0 sp A bq lq pl el) : zK h (zR h 1 1 9 p) = (201, 19) ∧ zN h (zR h 1 1 9 p) = 24 ∧ ∀ j, j < 24 → zI h 201 19 j (zR h 1 1 9 p) = aA A 9 j := rk_g2 w.1 9 (by decide)
/-- a branch ends -/
theorem k_go71 (w : RQ h p ic e0 sp A bq lq pl el) (t : thOk A) {i0 : Nat} (hi0 : i0 < bq.length) : ∃ h' bq' lq', j_X1_endGoing_j71 h ic p (bq.getD i0 0) = some h' ∧
    RQ h' p ic e0 sp (if (gB A i0).1 16 = 0 ∧ (gB A i0).1 19 ≠ (gB A i0).1 6 then wS (aThrow (i0 + 1) (wRet (wS A 32 (aS A 32 + 1)) (gB A i0).2.2)) 17 ((gB A i0).1 19) else A) bq' lq' pl el ∧ Cut h h' bq bq' ∧ Ch ME h h' := by
  have f := rq_fr w hi0
  have e16 := fr_i f (k := 16) (by decide)
  have e19 := fr_i f (k := 19) (by decide)
  have e6 := fr_i f (k := 6) (by decide)
  by_cases d1 : (gB A i0).1 16 = 0
  · by_cases d2 : (gB A i0).1 19 = (gB A i0).1 6
    · refine ⟨h, bq, lq, ?_, by rw [if_neg (fun z => z.2 d2)]; exact w, Cut.rf Fg.rf, Ch.rf⟩
      simp only [j_X1_endGoing_j71, j_X1_endGoing_j121, gd_true, ult, ubd, ukd, uwr, url, unz, uhI, uhR, uhL, upI, upR, upL, eKI, eKR, eKL, eNI, eNR, eNL, eTI, eTR, eTL, eIR, eIL, eRI, eRL, eLI, eLR, rIw, rRw, rLw, decide_true, decide_false, ne_eq, not_false_eq_true, not_true_eq_false, true_and, and_true, and_false, false_and, and_self, if_true, if_false, reduceIte, Nat.reduceEqDiff, decide_not, Bool.not_true, Bool.not_false, f.1, e16, e19, e6, if_pos d1, if_pos d2]
    · have s32 := rq_s w (k := 32) (by decide)
      have w2 : RQ (sI h 1 1 32 p (aS A 32 + 1)) p ic e0 sp (wS A 32 (aS A 32 + 1)) bq lq pl el := rq_wS w (by decide)
      have f2 : FR (sI h 1 1 32 p (aS A 32 + 1)) pl (bq.getD i0 0) (gB A i0) := rq_fr w2 hi0
      have w4 := rq_set11 w2 (x := zR h 8 1 5 (bq.getD i0 0)) (l := (gB A i0).2.2) f2.2.2.2.2.2.1
      obtain ⟨h5, g5, w5, c5, i5, fl5⟩ := k_throw (ic := ic) (gi := 0) w4 (t.eq (show pu (aS A) 32 (aS A 32 + 1) 0 = aS A 0 from pu_ne (by decide)) (fun k => rfl) rfl rfl) hi0
      rw [if_pos rfl] at w5
      have k5 : zK h5 (bq.getD i0 0) = (8, 1) := c5.k (by exact f.1) (by decide)
      have p5 : zI h5 8 1 19 (bq.getD i0 0) = (gB A i0).1 19 := (i5.1 19 _ (by decide)).trans (fr_i f2 (k := 19) (by decide))
      have w6 : RQ (sI h5 1 1 17 p ((gB A i0).1 19)) p ic e0 sp _ (bq.take (i0 + 1)) [] pl el := rq_wS w5 (by decide)
      refine ⟨sI h5 1 1 17 p ((gB A i0).1 19), bq.take (i0 + 1), [], ?_, by rw [if_pos ⟨d1, d2⟩]; exact w6, ⟨⟨i0 + 1, rfl, fun i hi hj => by rw [rIw, if_neg (by simp)]; exact fl5 i hi (by rw [if_pos rfl]; exact hj)⟩, Fg.o ((Fg.rf.o (by decide)).r.tr i5.2.1) (by decide)⟩, (((Ch.rf.sI (by simp)).sR (by simp)).tr (c5.sub (by simp))).sI (by simp)⟩
      simp only [j_X1_endGoing_j71, j_X1_endGoing_j121, gd_true, ult, ubd, ukd, uwr, url, unz, uhI, uhR, uhL, upI, upR, upL, eKI, eKR, eKL, eNI, eNR, eNL, eTI, eTR, eTL, eIR, eIL, eRI, eRL, eLI, eLR, rIw, rRw, rLw, decide_true, decide_false, ne_eq, not_false_eq_true, not_true_eq_false, true_and, and_true, and_false, false_and, and_self, if_true, if_false, reduceIte, Nat.reduceEqDiff, decide_not, Bool.not_true, Bool.not_false, f.1, e16, e19, e6, if_pos d1, if_neg d2, rq_k w, s32]
      rw [g5]
      simp only [gd_true, ult, ubd, ukd, uwr, url, unz, uhI, uhR, uhL, upI, upR, upL, eKI, eKR, eKL, eNI, eNR, eNL, eTI, eTR, eTL, eIR, eIL, eRI, eRL, eLI, eLR, rIw, rRw, rLw, decide_true, decide_false, ne_eq, not_false_eq_true, not_true_eq_false, true_and, and_true, and_false, false_and, and_self, if_true, if_false, reduceIte, Nat.reduceEqDiff, decide_not, Bool.not_true, Bool.not_false, rq_k w5, k5, p5]
  · refine ⟨h, bq, lq, ?_, by rw [if_neg (fun z => d1 z.1)]; exact w, Cut.rf Fg.rf, Ch.rf⟩
    simp only [j_X1_endGoing_j71, j_X1_endGoing_j121, gd_true, ult, ubd, ukd, uwr, url, unz, uhI, uhR, uhL, upI, upR, upL, eKI, eKR, eKL, eNI, eNR, eNL, eTI, eTR, eTL, eIR, eIL, eRI, eRL, eLI, eLR, rIw, rRw, rLw, decide_true, decide_false, ne_eq, not_false_eq_true, not_true_eq_false, true_and, and_true, and_false, false_and, and_self, if_true, if_false, reduceIte, Nat.reduceEqDiff, decide_not, Bool.not_true, Bool.not_false, f.1, e16, if_neg d1]
theorem k_endGo (w : RQ h p ic e0 sp A bq lq pl el) (b : bOk A) {i0 : Nat} (hi0 : i0 < bq.length) : ∃ h' bq' lq', j_X1_endGoing h p (bq.getD i0 0) ic = some h' ∧ RQ h' p ic e0 sp (aEndGo i0 A) bq' lq' pl el ∧ Cut h h' bq bq' ∧ Ch ME h h' := by
  have f := rq_fr w hi0
  obtain ⟨ki, kv⟩ := rq_ins w hi0
  have bf := rq_fB w b hi0
  obtain ⟨na, na1, na2⟩ := bf.2.1
  obtain ⟨nb, nb1, nb2⟩ := bf.2.2.1
  obtain ⟨v1, v2, v3⟩ := rq_val w
  have e10 := fr_i f (k := 10) (by decide)
  have e11 := fr_i f (k := 11) (by decide)
  have ea : val A ((gB A i0).1 10) = aA A 9 na := by unfold val; rw [na2, ix_nI (by omega)]
  have eb : val A ((gB A i0).1 11) = aA A 9 nb := by unfold val; rw [nb2, ix_nI (by omega)]
  have hl := rq_len w
  have hgo : ∀ h1 g, Fg h h1 → Ch ME h h1 → RQ h1 p ic e0 sp (upB A i0 g) bq lq pl el → g.1 12 = (gB A i0).1 12 → g = aFound A (gB A i0) → ∃ h' bq' lq', j_X1_endGoing_j71 h1 ic p (bq.getD i0 0) = some h' ∧ RQ h' p ic e0 sp (aEndGo i0 A) bq' lq' pl el ∧ Cut h h' bq bq' ∧ Ch ME h h' := by
    intro h1 g fg cg w1 g12 eg
    obtain ⟨h', bq', lq', r1, r2, r3, r4⟩ := k_go71 w1 (thOk_up b.th (by omega) g12) hi0
    refine ⟨h', bq', lq', r1, ?_, r3.pre fg, cg.tr r4⟩
    unfold aEndGo
    rw [gB_up (by omega), eg] at r2
    exact r2
  have hc := kv 0 (by decide)
  by_cases d1 : cInd (cd A (gB A i0))
  · have w1 := rq_wF (v := if isAd (aA A 9 na) then 0 else 3) w hi0 (k := 16) (by decide) (by decide) (Or.inl (by decide))
    have w2 := rq_wF (v := aA A 9 na) w1 hi0 (k := 19) (by decide) (by decide) (Or.inl (by decide))
    rw [gB_up (by omega), up_up] at w2
    obtain ⟨h', bq', lq', r1, r2, r3⟩ := hgo _ _ ((Fg.rf.w (by decide)).w (by decide)) ((Ch.rf.sI (by simp)).sI (by simp)) w2 (by rw [uF_ne (by decide), uF_ne (by decide)]) (by unfold aFound; rw [if_pos d1, ea])
    refine ⟨h', bq', lq', ?_, r2, r3⟩
    simp only [j_X1_endGoing, gd_true, ult, ubd, ukd, uwr, url, unz, uhI, uhR, uhL, upI, upR, upL, eKI, eKR, eKL, eNI, eNR, eNL, eTI, eTR, eTL, eIR, eIL, eRI, eRL, eLI, eLR, rIw, rRw, rLw, decide_true, decide_false, ne_eq, not_false_eq_true, not_true_eq_false, true_and, and_true, and_false, false_and, and_self, if_true, if_false, reduceIte, Nat.reduceEqDiff, decide_not, Bool.not_true, Bool.not_false, f.1, rq_k w, e10, na2, v1, v2, inb_nI na1 (by decide), ix_nI (show na < 2 ^ 31 by omega), v3 na na1, ki, x4_ind ki hc, if01, if_neg (fun z => z d1 : ¬ ¬ cInd (cd A (gB A i0))), k_place]
    by_cases d2 : isAd (aA A 9 na)
    · rw [if_pos d2] at r1
      rw [if_neg (fun z => z d2)]
      simp only [j_X1_endGoing_j35, gd_true, ult, ubd, ukd, uwr, url, unz, uhI, uhR, uhL, upI, upR, upL, eKI, eKR, eKL, eNI, eNR, eNL, eTI, eTR, eTL, eIR, eIL, eRI, eRL, eLI, eLR, rIw, rRw, rLw, decide_true, decide_false, ne_eq, not_false_eq_true, not_true_eq_false, true_and, and_true, and_false, false_and, and_self, if_true, if_false, reduceIte, Nat.reduceEqDiff, decide_not, Bool.not_true, Bool.not_false, f.1]
      exact r1
    · rw [if_neg d2] at r1
      rw [if_pos d2]
      simp only [j_X1_endGoing_j35, gd_true, ult, ubd, ukd, uwr, url, unz, uhI, uhR, uhL, upI, upR, upL, eKI, eKR, eKL, eNI, eNR, eNL, eTI, eTR, eTL, eIR, eIL, eRI, eRL, eLI, eLR, rIw, rRw, rLw, decide_true, decide_false, ne_eq, not_false_eq_true, not_true_eq_false, true_and, and_true, and_false, false_and, and_self, if_true, if_false, reduceIte, Nat.reduceEqDiff, decide_not, Bool.not_true, Bool.not_false, f.1]
      exact r1
  · by_cases d2 : fulf (cd A (gB A i0)) (aA A 9 na) (aA A 9 nb)
    · have w2 := rq_wF (v := iK A 4 (gB A i0)) w hi0 (k := 19) (by decide) (by decide) (Or.inl (by decide))
      obtain ⟨h', bq', lq', r1, r2, r3⟩ := hgo _ _ (Fg.rf.w (by decide)) (Ch.rf.sI (by simp)) w2 (by rw [uF_ne (by decide)]) (by unfold aFound; rw [if_neg d1, ea, eb, if_pos d2])
      refine ⟨h', bq', lq', ?_, r2, r3⟩
      simp only [j_X1_endGoing, gd_true, ult, ubd, ukd, uwr, url, unz, uhI, uhR, uhL, upI, upR, upL, eKI, eKR, eKL, eNI, eNR, eNL, eTI, eTR, eTL, eIR, eIL, eRI, eRL, eLI, eLR, rIw, rRw, rLw, decide_true, decide_false, ne_eq, not_false_eq_true, not_true_eq_false, true_and, and_true, and_false, false_and, and_self, if_true, if_false, reduceIte, Nat.reduceEqDiff, decide_not, Bool.not_true, Bool.not_false, f.1, rq_k w, e10, e11, na2, nb2, v1, v2, inb_nI na1 (by decide), inb_nI nb1 (by decide), ix_nI (show na < 2 ^ 31 by omega), ix_nI (show nb < 2 ^ 31 by omega), v3 na na1, v3 nb nb1, ki, x4_ind ki hc, if01, if_pos d1, x4_ful ki hc, if_neg (fun z => z d2 : ¬ ¬ fulf (cd A (gB A i0)) (aA A 9 na) (aA A 9 nb)), kv 4 (by decide)]
      exact r1
    · have e9 : upB A i0 (gB A i0) = A := by
        show wBuf A ((aBuf A).set i0 ((aBuf A).getD i0 FL0)) = A
        rw [getD_lt (by omega), List.set_getElem_self]
        rfl
      obtain ⟨h', bq', lq', r1, r2, r3⟩ := hgo h (gB A i0) Fg.rf Ch.rf (by rw [e9]; exact w) rfl (by unfold aFound; rw [if_neg d1, ea, eb, if_neg d2])
      refine ⟨h', bq', lq', ?_, r2, r3⟩
      simp only [j_X1_endGoing, gd_true, ult, ubd, ukd, uwr, url, unz, uhI, uhR, uhL, upI, upR, upL, eKI, eKR, eKL, eNI, eNR, eNL, eTI, eTR, eTL, eIR, eIL, eRI, eRL, eLI, eLR, rIw, rRw, rLw, decide_true, decide_false, ne_eq, not_false_eq_true, not_true_eq_false, true_and, and_true, and_false, false_and, and_self, if_true, if_false, reduceIte, Nat.reduceEqDiff, decide_not, Bool.not_true, Bool.not_false, f.1, rq_k w, e10, e11, na2, nb2, v1, v2, inb_nI na1 (by decide), inb_nI nb1 (by decide), ix_nI (show na < 2 ^ 31 by omega), ix_nI (show nb < 2 ^ 31 by omega), v3 na na1, v3 nb nb1, ki, x4_ind ki hc, if01, if_pos d1, x4_ful ki hc, if_pos d2]
      exact r1
/-- a result is found -/
theorem k_find (w : RQ h p ic e0 sp A bq lq pl el) (b : bOk A) {i0 : Nat} (hi0 : i0 < bq.length) : ∃ h', j_X1_findResult h p (bq.getD i0 0) = some h' ∧ RQ h' p ic e0 sp (upB A i0 (aResult A (gB A i0))) bq lq pl el ∧ Ch [(8, 1)] h h' ∧ Fg h h' := by
  have f := rq_fr w hi0
  obtain ⟨ki, kv⟩ := rq_ins w hi0
  have bf := rq_fB w b hi0
  obtain ⟨na, na1, na2⟩ := bf.2.1
  obtain ⟨nb, nb1, nb2⟩ := bf.2.2.1
  obtain ⟨v1, v2, v3⟩ := rq_val w
  have e10 := fr_i f (k := 10) (by decide)
  have e11 := fr_i f (k := 11) (by decide)
  have e17 := fr_i f (k := 17) (by decide)
  have ea : val A ((gB A i0).1 10) = aA A 9 na := by unfold val; rw [na2, ix_nI (by omega)]
  have eb : val A ((gB A i0).1 11) = aA A 9 nb := by unfold val; rw [nb2, ix_nI (by omega)]
  have hl := rq_len w
  have hc := kv 0 (by decide)
  have hc' : zI h 4 1 0 (zR h 8 1 0 (bq.getD i0 0)) = cd A (gB A i0) := hc
  obtain ⟨m1, m2, m3⟩ := rk_g2 w.1 3 (by decide)
  by_cases d1 : cd A (gB A i0) = 9
  · by_cases d2 : isAd ((gB A i0).1 17)
    · obtain ⟨m, hm, em⟩ : ∃ m, m < 64 ∧ (gB A i0).1 17 = nI m := by
        obtain ⟨j, j1, j2⟩ := nI_of (x := (gB A i0).1 17) (Int32.not_lt.mpr d2.1)
        refine ⟨j, ?_, j2⟩
        have := d2.2
        rw [j2] at this
        have := (nI_leI (a := j) (b := 63) (by omega) (by decide)).mp this
        omega
      have w1 := rq_wF (v := 0) w hi0 (k := 16) (by decide) (by decide) (Or.inl (by decide))
      by_cases d3 : (gB A i0).1 21 = -1
      · have s0 := (f.2.2.2.2.2.2.2.resolve_right (fun z => z.1 d3)).2
        have w2 := rq_wF (v := aA A 3 m) w1 hi0 (k := 18) (by decide) (by decide) (Or.inl (by decide))
        rw [gB_up (by omega), up_up] at w2
        refine ⟨sI (sI h 8 1 16 (bq.getD i0 0) 0) 8 1 18 (bq.getD i0 0) (aA A 3 m), ?_, ?_, (Ch.rf.sI (by simp)).sI (by simp), (Fg.rf.w (by decide)).w (by decide)⟩
        · simp only [j_X1_findResult, j_X1_findResult_j40, j_X1_findResult_j107, gd_true, ult, ubd, ukd, uwr, url, unz, uhI, uhR, uhL, upI, upR, upL, eKI, eKR, eKL, eNI, eNR, eNL, eTI, eTR, eTL, eIR, eIL, eRI, eRL, eLI, eLR, rIw, rRw, rLw, decide_true, decide_false, ne_eq, not_false_eq_true, not_true_eq_false, true_and, and_true, and_false, false_and, and_self, if_true, if_false, reduceIte, Nat.reduceEqDiff, decide_not, Bool.not_true, Bool.not_false, f.1, rq_k w, e11, nb2, v1, v2, inb_nI nb1 (by decide), ix_nI (show nb < 2 ^ 31 by omega), ki, hc', d1, e17, k_addr, if01, s0, em, if_neg (fun z => z (em ▸ d2) : ¬ ¬ isAd (nI m)), m1, m2, inb_nI (show m < aln 3 from hm) (by decide), ix_nI (show m < 2 ^ 31 by omega), m3 m hm]
        · unfold aResult
          rw [if_pos d1, if_pos d2, if_pos d3, em, ix_nI (by omega)]
          exact w2
      · have t := f.2.2.2.2.2.2.2.resolve_left (fun z => d3 z.1)
        have tn : ¬ zR h 8 1 21 (bq.getD i0 0) = 0 := wf_n0 (rq_wf w) t.2.1 (by decide)
        refine ⟨sI h 8 1 16 (bq.getD i0 0) 0, ?_, ?_, Ch.rf.sI (by simp), Fg.rf.w (by decide)⟩
        · simp only [j_X1_findResult, j_X1_findResult_j40, j_X1_findResult_j107, gd_true, ult, ubd, ukd, uwr, url, unz, uhI, uhR, uhL, upI, upR, upL, eKI, eKR, eKL, eNI, eNR, eNL, eTI, eTR, eTL, eIR, eIL, eRI, eRL, eLI, eLR, rIw, rRw, rLw, decide_true, decide_false, ne_eq, not_false_eq_true, not_true_eq_false, true_and, and_true, and_false, false_and, and_self, if_true, if_false, reduceIte, Nat.reduceEqDiff, decide_not, Bool.not_true, Bool.not_false, f.1, rq_k w, e11, nb2, v1, v2, inb_nI nb1 (by decide), ix_nI (show nb < 2 ^ 31 by omega), ki, hc', d1, e17, k_addr, if01, if_neg (fun z => z d2 : ¬ ¬ isAd ((gB A i0).1 17)), if_neg tn]
        · unfold aResult
          rw [if_pos d1, if_pos d2, if_neg d3]
          exact w1
    · have w1 := rq_wF (v := 2) w hi0 (k := 16) (by decide) (by decide) (Or.inl (by decide))
      have z20 : ¬ (2 : Int32) = 0 := by decide
      refine ⟨sI h 8 1 16 (bq.getD i0 0) 2, ?_, ?_, Ch.rf.sI (by simp), Fg.rf.w (by decide)⟩
      · simp only [j_X1_findResult, j_X1_findResult_j40, j_X1_findResult_j107, gd_true, ult, ubd, ukd, uwr, url, unz, uhI, uhR, uhL, upI, upR, upL, eKI, eKR, eKL, eNI, eNR, eNL, eTI, eTR, eTL, eIR, eIL, eRI, eRL, eLI, eLR, rIw, rRw, rLw, decide_true, decide_false, ne_eq, not_false_eq_true, not_true_eq_false, true_and, and_true, and_false, false_and, and_self, if_true, if_false, reduceIte, Nat.reduceEqDiff, decide_not, Bool.not_true, Bool.not_false, f.1, rq_k w, e11, nb2, v1, v2, inb_nI nb1 (by decide), ix_nI (show nb < 2 ^ 31 by omega), ki, hc', d1, e17, k_addr, if01, if_pos d2, if_neg z20, ite_self]
      · unfold aResult
        rw [if_pos d1, if_neg d2]
        exact w1
  · by_cases d2 : cd A (gB A i0) = 5 ∧ aA A 9 nb = 0
    · have w1 := rq_wF (v := 1) w hi0 (k := 16) (by decide) (by decide) (Or.inl (by decide))
      refine ⟨sI h 8 1 16 (bq.getD i0 0) 1, ?_, ?_, Ch.rf.sI (by simp), Fg.rf.w (by decide)⟩
      · simp only [j_X1_findResult, j_X1_findResult_j107, gd_true, ult, ubd, ukd, uwr, url, unz, uhI, uhR, uhL, upI, upR, upL, eKI, eKR, eKL, eNI, eNR, eNL, eTI, eTR, eTL, eIR, eIL, eRI, eRL, eLI, eLR, rIw, rRw, rLw, decide_true, decide_false, ne_eq, not_false_eq_true, not_true_eq_false, true_and, and_true, and_false, false_and, and_self, if_true, if_false, reduceIte, Nat.reduceEqDiff, decide_not, Bool.not_true, Bool.not_false, f.1, rq_k w, e11, nb2, v1, v2, inb_nI nb1 (by decide), ix_nI (show nb < 2 ^ 31 by omega), ki, hc', if_neg d1, x4_trp ki hc', v3 nb nb1, if01, if_neg (fun z => z d2 : ¬ ¬ (cd A (gB A i0) = 5 ∧ aA A 9 nb = 0))]
      · unfold aResult
        rw [if_neg d1, eb, if_pos d2]
        exact w1
    · have w1 := rq_wF (v := reck (cd A (gB A i0)) (iK A 4 (gB A i0)) (aA A 9 na) (aA A 9 nb)) w hi0 (k := 18) (by decide) (by decide) (Or.inl (by decide))
      refine ⟨sI h 8 1 18 (bq.getD i0 0) (reck (cd A (gB A i0)) (iK A 4 (gB A i0)) (aA A 9 na) (aA A 9 nb)), ?_, ?_, Ch.rf.sI (by simp), Fg.rf.w (by decide)⟩
      · simp only [j_X1_findResult, j_X1_findResult_j107, gd_true, ult, ubd, ukd, uwr, url, unz, uhI, uhR, uhL, upI, upR, upL, eKI, eKR, eKL, eNI, eNR, eNL, eTI, eTR, eTL, eIR, eIL, eRI, eRL, eLI, eLR, rIw, rRw, rLw, decide_true, decide_false, ne_eq, not_false_eq_true, not_true_eq_false, true_and, and_true, and_false, false_and, and_self, if_true, if_false, reduceIte, Nat.reduceEqDiff, decide_not, Bool.not_true, Bool.not_false, f.1, rq_k w, e10, e11, na2, nb2, v1, v2, inb_nI na1 (by decide), inb_nI nb1 (by decide), ix_nI (show na < 2 ^ 31 by omega), ix_nI (show nb < 2 ^ 31 by omega), ki, hc', if_neg d1, x4_trp ki hc', v3 na na1, v3 nb nb1, if01, if_pos d2, x4_rek (n := iK A 4 (gB A i0)) ki hc' (kv 4 (by decide)) (fun z y => d2 ⟨z, y⟩)]
      · unfold aResult
        rw [if_neg d1, ea, eb, if_neg d2]
        exact w1
end KEND

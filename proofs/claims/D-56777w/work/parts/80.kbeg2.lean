/-! BEGINNINGS: a load -/
set_option maxRecDepth 100000
section KBEG2
variable {ic e0 sp p : Nat} {h : zH} {A : AS} {bq lq pl el : List Nat}
theorem rk_len (w : RK h p ic e0 sp A bq lq pl el) : bq.length = (aBuf A).length := buf_len w
theorem rk_s (w : RK h p ic e0 sp A bq lq pl el) {k : Nat} (hk : k ∈ skl) : zI h 1 1 k p = aS A k := (rk_g1 w).1 k hk
theorem rk_fr (w : RK h p ic e0 sp A bq lq pl el) {i : Nat} (hi : i < bq.length) : FR h pl (bq.getD i 0) (gB A i) := buf_fr w hi
/-- begin -/
theorem rk_begin (w : RK h p ic e0 sp A bq lq pl el) {i : Nat} (hi : i < bq.length) {c dl : Int32} : ∃ h', j_X8_begin h (bq.getD i 0) c dl = some h' ∧ RK h' p ic e0 sp (upB A i (fBeg (gB A i) c dl)) bq lq pl el ∧ Ch [(8, 1)] h h' := by
  have hl := rk_len w
  have fr := rk_fr w hi
  have w1 := rk_wF (v := 120) w hi (k := 14) (by decide) (by decide)
  have w2 := rk_wF (v := c) w1 hi (k := 8) (by decide) (by decide)
  rw [gB_up (by omega), up_up] at w2
  have w3 := rk_wF (v := c + dl) w2 hi (k := 15) (by decide) (by decide)
  rw [gB_up (by omega), up_up] at w3
  refine ⟨_, ?_, w3, ((Ch.rf.sI (by simp)).sI (by simp)).sI (by simp)⟩
  simp only [j_X8_begin, gd_true, ult, ubd, ukd, uwr, url, unz, uhI, uhR, uhL, upI, upR, upL, eKI, eKR, eKL, eNI, eNR, eNL, eTI, eTR, eTL, eIR, eIL, eRI, eRL, eLI, eLR, rIw, rRw, rLw, decide_true, decide_false, ne_eq, not_false_eq_true, not_true_eq_false, true_and, and_true, and_false, false_and, and_self, if_true, if_false, reduceIte, Nat.reduceEqDiff, decide_not, Bool.not_true, Bool.not_false, fr.1]
theorem rk_wait (w : RK h p ic e0 sp A bq lq pl el) {i : Nat} (hi : i < bq.length) {l c : Int32} : ∃ h', j_X8_waitFor h (bq.getD i 0) l c = some h' ∧ RK h' p ic e0 sp (upB A i (fWait (gB A i) l c)) bq lq pl el ∧ Ch [(8, 1)] h h' := by
  have hl := rk_len w
  have fr := rk_fr w hi
  have w1 := rk_wF (v := 109) w hi (k := 14) (by decide) (by decide)
  have w2 := rk_wF (v := c) w1 hi (k := 8) (by decide) (by decide)
  rw [gB_up (by omega), up_up] at w2
  have w3 := rk_wF (v := l) w2 hi (k := 20) (by decide) (by decide)
  rw [gB_up (by omega), up_up] at w3
  refine ⟨_, ?_, w3, ((Ch.rf.sI (by simp)).sI (by simp)).sI (by simp)⟩
  simp only [j_X8_waitFor, gd_true, ult, ubd, ukd, uwr, url, unz, uhI, uhR, uhL, upI, upR, upL, eKI, eKR, eKL, eNI, eNR, eNL, eTI, eTR, eTL, eIR, eIL, eRI, eRL, eLI, eLR, rIw, rRw, rLw, decide_true, decide_false, ne_eq, not_false_eq_true, not_true_eq_false, true_and, and_true, and_false, false_and, and_self, if_true, if_false, reduceIte, Nat.reduceEqDiff, decide_not, Bool.not_true, Bool.not_false, fr.1]
theorem rk_bget (w : RK h p ic e0 sp A bq lq pl el) {r : Int32} (hr : ∃ n, n < 24 ∧ r = nI n) : j_J3_get h (zR h 1 1 10 p) r = some (h, if rdy A r then 1 else 0) := by
  obtain ⟨n, n1, n2⟩ := hr
  have := bs_get (rk_g4 w).1 n1
  rw [n2, this]
  unfold rdy
  rw [ix_nI (by omega)]
  by_cases c : aA A 10 n = 1 <;> simp [c]
/-- what beginLoad may write -/
abbrev MB : List (Nat × Nat) := [(8, 1), (1, 1), (13, 57), (14, 57), (16, 57), (7, 1), (16, 54)]
/-- and no reference of the component -/
def ChB (h h' : zH) : Prop := Ch MB h h' ∧ ∀ k x, zR h' 1 1 k x = zR h 1 1 k x
theorem ChB.rf {h : zH} : ChB h h := ⟨Ch.rf, fun _ _ => rfl⟩
theorem ChB.tr {h0 h1 h2 : zH} (a : ChB h0 h1) (b : ChB h1 h2) : ChB h0 h2 := ⟨a.1.tr b.1, fun k x => (b.2 k x).trans (a.2 k x)⟩
theorem ChB.of {h h' : zH} {m : List (Nat × Nat)} (c : Ch m h h') (e1 : ∀ x ∈ m, x ∈ MB) (e2 : (1, 1) ∉ m) : ChB h h' := ⟨c.sub e1, fun k x => by rw [c.r e2]⟩
theorem ChB.sI {h h' : zH} (a : ChB h h') {c r k q : Nat} {v : Int32} (e : (c, r) ∈ MB) : ChB h (sI h' c r k q v) := ⟨a.1.sI e, a.2⟩
theorem ChB.sL {h h' : zH} (a : ChB h h') {c r k q : Nat} {v : Int64} (e : (c, r) ∈ MB) : ChB h (sL h' c r k q v) := ⟨a.1.sL e, a.2⟩
theorem ChB.sR {h h' : zH} (a : ChB h h') {c r k q x : Nat} (e : (c, r) ∈ MB) (e2 : c ≠ 1) : ChB h (sR h' c r k q x) := ⟨a.1.sR e, fun k' x' => by rw [rRw, if_neg (fun z => e2 z.1.symm)]; exact a.2 k' x'⟩
theorem k_takeFrom (w : RK h p ic e0 sp A bq lq pl el) {i j : Nat} (hi : i < bq.length) (hj : j < bq.length) (hb : ∃ n, n < 24 ∧ (gB A j).1 11 = nI n) (h3 : 0 ≤ (gB A j).1 3) :
    ∃ h', j_X1_takeFrom h p (bq.getD i 0) (bq.getD j 0) = some (h', if cd A (gB A j) = 11 ∨ ¬ rdy A ((gB A j).1 11) then 0 else 1) ∧
      RK h' p ic e0 sp (if cd A (gB A j) = 11 ∨ ¬ rdy A ((gB A j).1 11) then A else upB (wS A 35 (aS A 35 + 1)) i (fBeg (uF (uF (gB A i) 21 ((gB A j).1 3)) 18 (val A ((gB A j).1 11))) (aS A 26) 1)) bq lq pl el ∧ ChB h h' := by
  have hl := rk_len w
  have fi := rk_fr w hi
  have fj := rk_fr w hj
  obtain ⟨kj, vj, -⟩ := fr_ins fj (rk_g10 w)
  have hc : zI h 4 1 0 (zR h 8 1 0 (bq.getD j 0)) = cd A (gB A j) := vj 0 (by decide)
  have e11 := fr_i fj (k := 11) (by decide)
  have k10 : zK h (zR h 1 1 10 p) = (11, 51) := (rk_g4 w).1.1
  by_cases d1 : cd A (gB A j) = 11
  · rw [if_pos (Or.inl d1), if_pos (Or.inl d1)]
    refine ⟨h, ?_, w, ChB.rf⟩
    simp only [j_X1_takeFrom, j_X1_takeFrom_j26, gd_true, ult, ubd, ukd, uwr, url, unz, uhI, uhR, uhL, upI, upR, upL, eKI, eKR, eKL, eNI, eNR, eNL, eTI, eTR, eTL, eIR, eIL, eRI, eRL, eLI, eLR, rIw, rRw, rLw, decide_true, decide_false, ne_eq, not_false_eq_true, not_true_eq_false, true_and, and_true, and_false, false_and, and_self, if_true, if_false, reduceIte, Nat.reduceEqDiff, decide_not, Bool.not_true, Bool.not_false, fj.1, kj, hc, if_pos d1]
  · by_cases d2 : rdy A ((gB A j).1 11)
    · have nd : ¬ (cd A (gB A j) = 11 ∨ ¬ rdy A ((gB A j).1 11)) := fun z => z.elim d1 (fun z => z d2)
      rw [if_neg nd, if_neg nd]
      have s35 := rk_s w (k := 35) (by decide)
      have w1 := rk_wS (k := 35) (v := aS A 35 + 1) w (by decide)
      have hn : (gB A j).1 3 ≠ -1 := fun z => by rw [z] at h3; exact absurd h3 (by decide)
      have w2 := rk_wS21 (s := bq.getD j 0) (n := (gB A j).1 3) w1 hi fj.1 hn fj.2.2.2.1
      obtain ⟨nb, nb1, nb2⟩ := hb
      obtain ⟨v1, v2, v3⟩ := rk_g2 w 9 (by decide)
      have v3' : zI h 201 19 nb (zR h 1 1 9 p) = aA A 9 nb := v3 nb nb1
      have eb : val A ((gB A j).1 11) = aA A 9 nb := by unfold val; rw [nb2, ix_nI (by omega)]
      have w3 := rk_wF (v := aA A 9 nb) w2 hi (k := 18) (by decide) (by decide)
      rw [gB_up (by show i < (aBuf A).length; omega), up_up] at w3
      obtain ⟨h', e4, w4, c4⟩ := rk_begin (c := aS A 26) (dl := 1) w3 hi
      rw [gB_up (by show i < (aBuf A).length; omega), up_up] at w4
      rw [eb]
      have s26 := rk_s w (k := 26) (by decide)
      have bg := rk_bget w ⟨nb, nb1, nb2⟩
      rw [nb2] at bg
      have d2' : aA A 10 nb = 1 := by have := d2; unfold rdy at this; rw [nb2, ix_nI (by omega)] at this; exact this
      refine ⟨h', ?_, w4, ((((ChB.rf.sI (by simp)).sR (by simp) (by decide)).sI (by simp)).tr (ChB.of c4 (by simp) (by decide)))⟩
      simp only [j_X1_takeFrom, j_X1_takeFrom_j26, gd_true, ult, ubd, ukd, uwr, url, unz, uhI, uhR, uhL, upI, upR, upL, eKI, eKR, eKL, eNI, eNR, eNL, eTI, eTR, eTL, eIR, eIL, eRI, eRL, eLI, eLR, rIw, rRw, rLw, decide_true, decide_false, ne_eq, not_false_eq_true, not_true_eq_false, true_and, and_true, and_false, false_and, and_self, if_true, if_false, reduceIte, Nat.reduceEqDiff, decide_not, Bool.not_true, Bool.not_false, fi.1, fj.1, kj, hc, if_neg d1, rk_wk w, k10, e11, nb2, bg, if01, if_neg (fun z => z d2' : ¬ ¬ aA A 10 nb = 1), s35, v1, v2, inb_nI (show nb < aln 9 from nb1) (by decide), ix_nI (show nb < 2 ^ 31 by omega), v3', s26, e4]
    · rw [if_pos (Or.inr d2), if_pos (Or.inr d2)]
      refine ⟨h, ?_, w, ChB.rf⟩
      simp only [j_X1_takeFrom, j_X1_takeFrom_j26, gd_true, ult, ubd, ukd, uwr, url, unz, uhI, uhR, uhL, upI, upR, upL, eKI, eKR, eKL, eNI, eNR, eNL, eTI, eTR, eTL, eIR, eIL, eRI, eRL, eLI, eLR, rIw, rRw, rLw, decide_true, decide_false, ne_eq, not_false_eq_true, not_true_eq_false, true_and, and_true, and_false, false_and, and_self, if_true, if_false, reduceIte, Nat.reduceEqDiff, decide_not, Bool.not_true, Bool.not_false, fj.1, kj, hc, if_neg d1, rk_wk w, k10, e11, rk_bget w hb, if01, if_pos d2]
theorem div4 : ∀ m, m < 64 → nI m / 4 = nI (m / 4) := by decide +kernel
theorem lg_1 {n : Nat} (h : n + 1 < 2 ^ 31) : (nI n + 1).toInt64 = (nI n).toInt64 + 1 := by rw [nI_1, nI_l h, nI_l (by omega), lN_1]
theorem rk_h36 (w : RK h p ic e0 sp A bq lq pl el) (hb : ∃ b, aS A 36 = nI b ∧ b < 1000000) : RK (sL h 1 1 36 p (zL h 1 1 36 p + 1)) p ic e0 sp (wS A 36 (aS A 36 + 1)) bq lq pl el := by
  obtain ⟨b, b1, b2⟩ := hb
  refine rk_w36 w ?_
  have L := (rk_g1 w).2.2
  have e1 : aS (wS A 36 (aS A 36 + 1)) 36 = aS A 36 + 1 := pu_at (aS A) 36 (aS A 36 + 1)
  have e2 : aS (wS A 36 (aS A 36 + 1)) 37 = aS A 37 := aS_ne (by decide)
  have e3 : (aS A 36 + 1).toInt64 = (aS A 36).toInt64 + 1 := by rw [b1]; exact lg_1 (by omega)
  rw [e1, e2, e3, L]
  generalize (aS A 36).toInt64 = x
  generalize 1000 * (aS A 37).toInt64 = y
  rw [Int64.add_assoc, Int64.add_assoc, Int64.add_comm y 1]
theorem rk_h37 (w : RK h p ic e0 sp A bq lq pl el) (hb : ∃ b, aS A 37 = nI b ∧ b < 1000000) : RK (sL h 1 1 36 p (zL h 1 1 36 p + 1000)) p ic e0 sp (wS A 37 (aS A 37 + 1)) bq lq pl el := by
  obtain ⟨b, b1, b2⟩ := hb
  refine rk_w37 w ?_
  have L := (rk_g1 w).2.2
  have e1 : aS (wS A 37 (aS A 37 + 1)) 37 = aS A 37 + 1 := pu_at (aS A) 37 (aS A 37 + 1)
  have e2 : aS (wS A 37 (aS A 37 + 1)) 36 = aS A 36 := aS_ne (by decide)
  have e3 : (aS A 37 + 1).toInt64 = (aS A 37).toInt64 + 1 := by rw [b1]; exact lg_1 (by omega)
  rw [e1, e2, e3, L]
  generalize (aS A 36).toInt64 = x
  generalize (aS A 37).toInt64 = y
  rw [Int64.mul_add, Int64.mul_one, Int64.add_assoc]
/-- the model's line -/
def aRead (i : Nat) (A : AS) : AS × Bool :=
  let l := gB A i
  let ln := l.1 17 / 4
  if aA A 24 (ix (irm ln 4)) = ln then (upB (wS A 36 (aS A 36 + 1)) i (fBeg l (aS A 26) 2), true)
  else if ∃ q ∈ aAsk A, q.1 = ln then (upB A i (fWait l ln (aS A 26)), true)
  else if (aAsk A).length = 2 then (A, false)
  else (upB (wAsk (wS A 37 (aS A 37 + 1)) (aAsk A ++ [(ln, aS A 26 + aA A 23 (ix ln))])) i (fWait l ln (aS A 26)), true)
theorem k_read (w : RK h p ic e0 sp A bq lq pl el) {i : Nat} (hi : i < bq.length) (h17 : isAd ((gB A i).1 17)) (hk : (aAsk A).length ≤ 2) (hc : ∃ b c, aS A 36 = nI b ∧ aS A 37 = nI c ∧ b < 1000000 ∧ c < 1000000) :
    ∃ h', j_X1_readLine h p (bq.getD i 0) = some (h', if (aRead i A).2 then 1 else 0) ∧ RK h' p ic e0 sp (aRead i A).1 bq lq pl el ∧ ChB h h' := by
  obtain ⟨m, hm, em⟩ := ad_nI h17
  obtain ⟨b, c, hb1, hc1, hb2, hc2⟩ := hc
  have hl := rk_len w
  have fi := rk_fr w hi
  have e17 := fr_i fi (k := 17) (by decide)
  obtain ⟨ln, r, hln, hm4, e4, i4⟩ : ∃ ln r, ln < 16 ∧ r < aln 24 ∧ (gB A i).1 17 / 4 = nI ln ∧ irm (nI ln) 4 = nI r := ⟨m / 4, m / 4 % 4, by omega, Nat.mod_lt _ (by decide), by rw [em]; exact div4 m hm, irm_nI (k := 4) (by omega) (by decide) (by decide)⟩
  have x4 : ix (nI r) = r := ix_nI (by have : r < 4 := hm4; omega)
  obtain ⟨t1, t2, t3⟩ := rk_g2 w 24 (by decide)
  have t3' : zI h 201 34 (r) (zR h 1 1 24 p) = aA A 24 (r) := t3 _ hm4
  have s26 := rk_s w (k := 26) (by decide)
  unfold aRead
  dsimp only
  simp only [e4, i4, x4]
  by_cases d1 : aA A 24 (r) = nI ln
  · rw [if_pos d1]
    have w1 := rk_h36 w ⟨b, hb1, hb2⟩
    obtain ⟨h', e5, w5, c5⟩ := rk_begin (c := aS A 26) (dl := 2) w1 hi
    refine ⟨h', ?_, w5, (ChB.rf.sL (by simp)).tr (ChB.of c5 (by simp) (by decide))⟩
    show _ = some (h', 1)
    simp only [j_X1_readLine, j_X1_readLine_j99, gd_true, ult, ubd, ukd, uwr, url, unz, uhI, uhR, uhL, upI, upR, upL, eKI, eKR, eKL, eNI, eNR, eNL, eTI, eTR, eTL, eIR, eIL, eRI, eRL, eLI, eLR, rIw, rRw, rLw, decide_true, decide_false, ne_eq, not_false_eq_true, not_true_eq_false, true_and, and_true, and_false, false_and, and_self, if_true, if_false, reduceIte, Nat.reduceEqDiff, decide_not, Bool.not_true, Bool.not_false, fi.1, e17, e4, rk_wk w, t1, t2, i4, inb_nI hm4 (by decide), x4, t3', if_pos d1, s26, e5]
  · rw [if_neg d1]
    obtain ⟨h1, a1, c1⟩ := k_asked (ln := nI ln) w hk
    have w1 : RK h1 p ic e0 sp A bq lq pl el := rk_its w (c1.sub (by simp))
    have hi1 := rk_fr w1 hi
    have s26a := rk_s w1 (k := 26) (by decide)
    by_cases d2 : ∃ q ∈ aAsk A, q.1 = nI ln
    · rw [if_pos d2]
      obtain ⟨h', e5, w5, c5⟩ := rk_wait (l := nI ln) (c := aS A 26) w1 hi
      refine ⟨h', ?_, w5, (ChB.of c1 (by simp) (by decide)).tr (ChB.of c5 (by simp) (by decide))⟩
      show _ = some (h', 1)
      rw [if_pos d2] at a1
      simp only [j_X1_readLine, j_X1_readLine_j99, gd_true, ult, ubd, ukd, uwr, url, unz, uhI, uhR, uhL, upI, upR, upL, eKI, eKR, eKL, eNI, eNR, eNL, eTI, eTR, eTL, eIR, eIL, eRI, eRL, eLI, eLR, rIw, rRw, rLw, decide_true, decide_false, ne_eq, not_false_eq_true, not_true_eq_false, true_and, and_true, and_false, false_and, and_self, if_true, if_false, reduceIte, Nat.reduceEqDiff, decide_not, Bool.not_true, Bool.not_false, fi.1, e17, e4, rk_wk w, t1, t2, i4, inb_nI hm4 (by decide), x4, t3', if_neg d1, a1, if_neg (by decide : ¬ (1 : Int32) = 0), rk_wk w1, hi1.1, s26a, e5]
    · rw [if_neg d2]
      rw [if_neg d2] at a1
      obtain ⟨ql, ns, wl, l1, l2⟩ := rk_g8 w1
      have hsz := ll_size wl
      have n2 : nI 2 = 2 := by decide
      have e2 : (nI ql.length = 2) = ((aAsk A).length = 2) := by
        rw [← n2]
        rw [nI_eq (by omega) (by decide), l1]
      by_cases d3 : (aAsk A).length = 2
      · rw [if_pos d3]
        refine ⟨h1, ?_, w1, ChB.of c1 (by simp) (by decide)⟩
        show _ = some (h1, 0)
        simp only [j_X1_readLine, j_X1_readLine_j99, gd_true, ult, ubd, ukd, uwr, url, unz, uhI, uhR, uhL, upI, upR, upL, eKI, eKR, eKL, eNI, eNR, eNL, eTI, eTR, eTL, eIR, eIL, eRI, eRL, eLI, eLR, rIw, rRw, rLw, decide_true, decide_false, ne_eq, not_false_eq_true, not_true_eq_false, true_and, and_true, and_false, false_and, and_self, if_true, if_false, reduceIte, Nat.reduceEqDiff, decide_not, Bool.not_true, Bool.not_false, fi.1, e17, e4, rk_wk w, t1, t2, i4, inb_nI hm4 (by decide), x4, t3', if_neg d1, a1, rk_wk w1, wl.1, hsz, e2, if_pos d3]
      · rw [if_neg d3]
        have w2 := rk_h37 w1 ⟨c, hc1, hc2⟩
        have hm16 : ln < aln 23 := by show ln < 16; omega
        obtain ⟨u1, u2', u3⟩ := rk_g2 w2 23 (by decide)
        have u3' : zI h1 201 33 ln (zR h1 1 1 23 p) = aA A 23 ln := u3 _ hm16
        have u1' : zK h1 (zR h1 1 1 23 p) = (201, 33) := u1
        have u2'' : zN h1 (zR h1 1 1 23 p) = aln 23 := u2'
        have hw2 : zWf (sL h1 1 1 36 p (zL h1 1 1 36 p + 1000)) := rk_w0 w2
        -- the new object
        have cN : Ch [(7, 1)] (sL h1 1 1 36 p (zL h1 1 1 36 p + 1000)) (sI (sI (nw (sL h1 1 1 36 p (zL h1 1 1 36 p + 1000)) 7 1 0) 7 1 0 (zT h1 + 1) (nI ln)) 7 1 1 (zT h1 + 1) (aS A 26 + aA A 23 ln)) := ((Ch.rf.nw hw2 (by simp)).sI (by simp)).sI (by simp)
        have wl2 : LL (sL h1 1 1 36 p (zL h1 1 1 36 p + 1000)) 57 (zR h1 1 1 25 p) ql ns := wl.keep (Ch.rf.sL (by simp) : Ch [(1, 1)] h1 (sL h1 1 1 36 p (zL h1 1 1 36 p + 1000))) (by decide) (by decide)
        have wl3 := wl2.keep cN (by decide) (by decide)
        have hw3 := cN.2.1 hw2
        obtain ⟨h4, f1, f2, f3⟩ := ll_addLast (x := zT h1 + 1) wl3 hw3 (by decide) (by omega)
        have c24 : Ch [(13, 57), (14, 57), (16, 57), (7, 1)] (sL h1 1 1 36 p (zL h1 1 1 36 p + 1000)) h4 := (cN.sub (by simp)).tr (f3.sub (by simp))
        have kN : zK (sI (sI (nw (sL h1 1 1 36 p (zL h1 1 1 36 p + 1000)) 7 1 0) 7 1 0 (zT h1 + 1) (nI ln)) 7 1 1 (zT h1 + 1) (aS A 26 + aA A 23 ln)) (zT h1 + 1) = (7, 1) := nw_Ks (h := sL h1 1 1 36 p (zL h1 1 1 36 p + 1000)) (n := 0)
        have g8' : G8 h4 p (aAsk A ++ [(nI ln, aS A 26 + aA A 23 ln)]) := by
          refine ⟨ql ++ [zT h1 + 1], _, by rw [c24.r (by decide)]; exact f2, by rw [List.length_append, List.length_append, l1]; rfl, fun j hj => ?_⟩
          rw [List.length_append] at hj
          by_cases cj : j < ql.length
          · rw [getD_app1 cj, getD_app1 (by omega)]
            obtain ⟨y1, y2, y3⟩ := l2 j cj
            have nq : ¬ ql.getD j 0 = zT h1 + 1 := wf_ne (rk_w0 w1) y1 (by decide)
            refine ⟨f3.k (cN.k y1 (by decide)) (by decide), ?_, ?_⟩
            · rw [f3.i (by decide), rIw, if_neg (by simp), rIw, if_neg (fun z => nq z.2.2.2), rIn, if_neg (fun z => nq z.2.2)]
              exact y2
            · rw [f3.i (by decide), rIw, if_neg (fun z => nq z.2.2.2), rIw, if_neg (by simp), rIn, if_neg (fun z => nq z.2.2)]
              exact y3
          · have hj1 : j = ql.length := by simp at hj; omega
            have ea : (ql ++ [zT h1 + 1]).getD j 0 = zT h1 + 1 := by rw [hj1]; exact getD_app2
            have eb : (aAsk A ++ [(nI ln, aS A 26 + aA A 23 ln)]).getD j (0, 0) = (nI ln, aS A 26 + aA A 23 ln) := by rw [hj1, l1]; exact getD_app2
            rw [ea, eb]
            refine ⟨f3.k kN (by decide), ?_, ?_⟩
            · rw [f3.i (by decide)]; simp [rIw]
            · rw [f3.i (by decide)]; simp [rIw]
        have w4 := rk_set8 w2 c24 g8'
        obtain ⟨h', e5, w5, c5⟩ := rk_wait (l := nI ln) (c := aS A 26) w4 hi
        have e16 : ix (nI ln) = ln := ix_nI (by omega)
        rw [e16]
        refine ⟨h', ?_, w5, (((ChB.of c1 (by simp) (by decide)).sL (by simp)).tr (ChB.of c24 (by simp) (by decide))).tr (ChB.of c5 (by simp) (by decide))⟩
        show _ = some (h', 1)
        have n0 : nzr (zT h1 + 1) = true := decide_eq_true (by omega)
        have kn : zK (nw (sL h1 1 1 36 p (zL h1 1 1 36 p + 1000)) 7 1 0) p = (1, 1) := nw_K hw2 (rk_wk w2) (by decide)
        have kn7 : zK (nw (sL h1 1 1 36 p (zL h1 1 1 36 p + 1000)) 7 1 0) (zT h1 + 1) = (7, 1) := kN
        have kn23 : zK (nw (sL h1 1 1 36 p (zL h1 1 1 36 p + 1000)) 7 1 0) (zR h1 1 1 23 p) = (201, 33) := nw_K hw2 u1' (by decide)
        have nn23 : zN (nw (sL h1 1 1 36 p (zL h1 1 1 36 p + 1000)) 7 1 0) (zR h1 1 1 23 p) = aln 23 := by rw [(Ch.rf.nw hw2 (by simp) : Ch [(7, 1)] _ (nw (sL h1 1 1 36 p (zL h1 1 1 36 p + 1000)) 7 1 0)).n u1' (by decide)]; exact u2''
        have k25 : zK (sI (sI (nw (sL h1 1 1 36 p (zL h1 1 1 36 p + 1000)) 7 1 0) 7 1 0 (zT h1 + 1) (nI ln)) 7 1 1 (zT h1 + 1) (aS A 26 + aA A 23 ln)) (zR h1 1 1 25 p) = (13, 57) := wl3.1
        have fi4 := (rk_fr w4 hi).1
        have s26c : zI h4 1 1 26 p = aS A 26 := by
          refine (rk_s w4 (k := 26) (by decide)).trans ?_
          exact aS_ne (A := A) (j := 26) (k := 37) (v := aS A 37 + 1) (by decide)
        have n25 : zK (nw (sL h1 1 1 36 p (zL h1 1 1 36 p + 1000)) 7 1 0) (zR h1 1 1 25 p) = (13, 57) := wl3.1
        simp only [j_X1_readLine, j_X1_readLine_j99, j_X7_init, gd_true, ult, ubd, ukd, uwr, url, unz, uhI, uhR, uhL, upI, upR, upL, eKI, eKR, eKL, eNI, eNR, eNL, eTI, eTR, eTL, eIR, eIL, eRI, eRL, eLI, eLR, rIw, rRw, rLw, decide_true, decide_false, ne_eq, not_false_eq_true, not_true_eq_false, true_and, and_true, and_false, false_and, and_self, if_true, if_false, reduceIte, Nat.reduceEqDiff, decide_not, Bool.not_true, Bool.not_false, rIn, rRn, fi.1, e17, e4, rk_wk w, t1, t2, i4, inb_nI hm4 (by decide), x4, t3', if_neg d1, a1, rk_wk w1, wl.1, hsz, e2, if_neg d3, kn, kn7, kn23, nn23, n0, inb_nI hm16 (by decide), e16, u3', s26a, n25, f1, rk_wk w4, fi4, s26c, e5]
end KBEG2

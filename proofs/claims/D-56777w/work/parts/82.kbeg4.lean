/-! BEGINNINGS: one, all -/
set_option maxRecDepth 100000
theorem up_self {A : AS} {i : Nat} (hi : i < (aBuf A).length) : upB A i (gB A i) = A := by
  have e : (aBuf A).set i (gB A i) = aBuf A := by unfold gB; rw [getD_lt hi]; exact List.set_getElem_self hi
  unfold upB
  rw [e]
  rfl
/-- the flight that begins: its address -/
def fAd (A : AS) (f : FL) : FL := if cMem (cd A f) then uF f 17 (val A (f.1 10) + iK A 4 f) else f
def dly (c : Int32) : Int32 := if c = 4 then 3 else if c = 5 then 6 else 1
theorem aBegin_eq {A : AS} {i : Nat} : aBegin i A = if cd A (gB A i) = 9 ∧ isAd ((fAd A (gB A i)).1 17) then aBeginLoad i (upB A i (fAd A (gB A i))) else (upB (upB A i (fAd A (gB A i))) i (fBeg (fAd A (gB A i)) (aS A 26) (dly (cd A (gB A i)))), true) := rfl
theorem fAd_f {A : AS} {f : FL} : (∀ j, j ≠ 17 → (fAd A f).1 j = f.1 j) := by
  intro j hj
  unfold fAd
  split
  · exact uF_ne hj
  · rfl
theorem fAd_B {A : AS} {f : FL} (b : fB A f) : fB A (fAd A f) := by
  unfold fAd
  split
  · exact b.w (by omega) (by omega)
  · exact b
section KBEG4
variable {ic e0 sp p : Nat} {bq lq pl el : List Nat}
theorem k_begin {h : zH} {A : AS} (w : RK h p ic e0 sp A bq lq pl el) (b : bOk A) {i : Nat} (hi : i < bq.length) (hk : (aAsk A).length ≤ 2) (hc : ∃ b c, aS A 36 = nI b ∧ aS A 37 = nI c ∧ b < 1000000 ∧ c < 1000000) :
    ∃ h', j_X1_begin h p (bq.getD i 0) = some (h', if (aBegin i A).2 then 1 else 0) ∧ RK h' p ic e0 sp (aBegin i A).1 bq lq pl el ∧ ChB h h' := by
  have hl := rk_len w
  have fr := rk_fr w hi
  obtain ⟨ki, kv, -⟩ := fr_ins fr (rk_g10 w)
  have hcd : zI h 4 1 0 (zR h 8 1 0 (bq.getD i 0)) = cd A (gB A i) := kv 0 (by decide)
  have bi := b.2.1 _ (gB_mem (A := A) (i := i) (by omega))
  have bB : bOk (upB A i (fAd A (gB A i))) := bOk_up b (fAd_B bi) (fAd_f 12 (by decide))
  have gu : gB (upB A i (fAd A (gB A i))) i = fAd A (gB A i) := gB_up (by omega)
  -- behind the address
  have fin : ∀ h1, RK h1 p ic e0 sp (upB A i (fAd A (gB A i))) bq lq pl el → ChB h h1 → zR h1 8 1 0 (bq.getD i 0) = zR h 8 1 0 (bq.getD i 0) → ∃ h', j_X1_begin_j30 h1 p (bq.getD i 0) (zR h 8 1 0 (bq.getD i 0)) = some (h', if (aBegin i A).2 then 1 else 0) ∧ RK h' p ic e0 sp (aBegin i A).1 bq lq pl el ∧ ChB h h' := by
    intro h1 w1 c1 er
    have fr1 := rk_fr w1 hi
    rw [gu] at fr1
    have ki1 : zK h1 (zR h 8 1 0 (bq.getD i 0)) = (4, 1) := c1.1.k ki (by decide)
    have hc1 : zI h1 4 1 0 (zR h 8 1 0 (bq.getD i 0)) = cd A (gB A i) := by rw [c1.1.i (by decide)]; exact hcd
    have e17 := fr_i fr1 (k := 17) (by decide)
    have s26 : zI h1 1 1 26 p = aS A 26 := rk_s w1 (k := 26) (by decide)
    have ordn : ¬ (cd A (gB A i) = 9 ∧ isAd ((fAd A (gB A i)).1 17)) → j_X1_begin_j30 h1 p (bq.getD i 0) (zR h 8 1 0 (bq.getD i 0)) = j_X1_begin_j55 h1 p (bq.getD i 0) (zR h 8 1 0 (bq.getD i 0)) → ∃ h', j_X1_begin_j30 h1 p (bq.getD i 0) (zR h 8 1 0 (bq.getD i 0)) = some (h', if (aBegin i A).2 then 1 else 0) ∧ RK h' p ic e0 sp (aBegin i A).1 bq lq pl el ∧ ChB h h' := by
      intro hn he
      have ev := (aBegin_eq (A := A) (i := i)).trans (if_neg hn)
      obtain ⟨h', f1, f2, f3⟩ := rk_begin (c := aS A 26) (dl := dly (cd A (gB A i))) w1 hi
      rw [gu] at f2
      rw [ev]
      refine ⟨h', ?_, f2, c1.tr (ChB.of f3 (by simp) (by decide))⟩
      show _ = some (h', 1)
      rw [he]
      unfold dly at f1
      by_cases d4 : cd A (gB A i) = 4
      · rw [if_pos d4] at f1
        simp only [j_X1_begin_j55, j_X1_begin_j86, gd_true, ult, ubd, ukd, uwr, url, unz, uhI, uhR, uhL, upI, upR, upL, eKI, eKR, eKL, eNI, eNR, eNL, eTI, eTR, eTL, eIR, eIL, eRI, eRL, eLI, eLR, rIw, rRw, rLw, decide_true, decide_false, ne_eq, not_false_eq_true, not_true_eq_false, true_and, and_true, and_false, false_and, and_self, if_true, if_false, reduceIte, Nat.reduceEqDiff, decide_not, Bool.not_true, Bool.not_false, rk_wk w1, ki1, hc1, if_pos d4, s26, fr1.1, f1]
      · rw [if_neg d4] at f1
        by_cases d5 : cd A (gB A i) = 5
        · rw [if_pos d5] at f1
          simp only [j_X1_begin_j55, j_X1_begin_j86, gd_true, ult, ubd, ukd, uwr, url, unz, uhI, uhR, uhL, upI, upR, upL, eKI, eKR, eKL, eNI, eNR, eNL, eTI, eTR, eTL, eIR, eIL, eRI, eRL, eLI, eLR, rIw, rRw, rLw, decide_true, decide_false, ne_eq, not_false_eq_true, not_true_eq_false, true_and, and_true, and_false, false_and, and_self, if_true, if_false, reduceIte, Nat.reduceEqDiff, decide_not, Bool.not_true, Bool.not_false, rk_wk w1, ki1, hc1, if_neg d4, if_pos d5, s26, fr1.1, f1]
        · rw [if_neg d5] at f1
          simp only [j_X1_begin_j55, j_X1_begin_j86, gd_true, ult, ubd, ukd, uwr, url, unz, uhI, uhR, uhL, upI, upR, upL, eKI, eKR, eKL, eNI, eNR, eNL, eTI, eTR, eTL, eIR, eIL, eRI, eRL, eLI, eLR, rIw, rRw, rLw, decide_true, decide_false, ne_eq, not_false_eq_true, not_true_eq_false, true_and, and_true, and_false, false_and, and_self, if_true, if_false, reduceIte, Nat.reduceEqDiff, decide_not, Bool.not_true, Bool.not_false, rk_wk w1, ki1, hc1, if_neg d4, if_neg d5, s26, fr1.1, f1]
    by_cases d9 : cd A (gB A i) = 9
    · by_cases da : isAd ((fAd A (gB A i)).1 17)
      · have ev := (aBegin_eq (A := A) (i := i)).trans (if_pos ⟨d9, da⟩)
        rw [ev]
        obtain ⟨h', f1, f2, f3⟩ := k_beginLoad w1 bB hi (by rw [gu]; exact da) hk hc
        refine ⟨h', ?_, f2, c1.tr f3⟩
        have hb : b01 (if (aBeginLoad i (upB A i (fAd A (gB A i)))).2 then 1 else 0) = true := b01_if
        simp only [j_X1_begin_j30, gd_true, ult, ubd, ukd, uwr, url, unz, uhI, uhR, uhL, upI, upR, upL, eKI, eKR, eKL, eNI, eNR, eNL, eTI, eTR, eTL, eIR, eIL, eRI, eRL, eLI, eLR, rIw, rRw, rLw, decide_true, decide_false, ne_eq, not_false_eq_true, not_true_eq_false, true_and, and_true, and_false, false_and, and_self, if_true, if_false, reduceIte, Nat.reduceEqDiff, decide_not, Bool.not_true, Bool.not_false, ki1, hc1, if_pos d9, fr1.1, e17, k_addr, if01, if_neg (fun z => z da : ¬ ¬ isAd ((fAd A (gB A i)).1 17)), rk_wk w1, f1, hb]
      · refine ordn (fun z => da z.2) ?_
        simp only [j_X1_begin_j30, gd_true, ult, ubd, ukd, uwr, url, unz, uhI, uhR, uhL, upI, upR, upL, eKI, eKR, eKL, eNI, eNR, eNL, eTI, eTR, eTL, eIR, eIL, eRI, eRL, eLI, eLR, rIw, rRw, rLw, decide_true, decide_false, ne_eq, not_false_eq_true, not_true_eq_false, true_and, and_true, and_false, false_and, and_self, if_true, if_false, reduceIte, Nat.reduceEqDiff, decide_not, Bool.not_true, Bool.not_false, ki1, hc1, if_pos d9, fr1.1, e17, k_addr, if01, if_pos da]
    · refine ordn (fun z => d9 z.1) ?_
      simp only [j_X1_begin_j30, gd_true, ult, ubd, ukd, uwr, url, unz, uhI, uhR, uhL, upI, upR, upL, eKI, eKR, eKL, eNI, eNR, eNL, eTI, eTR, eTL, eIR, eIL, eRI, eRL, eLI, eLR, rIw, rRw, rLw, decide_true, decide_false, ne_eq, not_false_eq_true, not_true_eq_false, true_and, and_true, and_false, false_and, and_self, if_true, if_false, reduceIte, Nat.reduceEqDiff, decide_not, Bool.not_true, Bool.not_false, ki1, hc1, if_neg d9]
  by_cases dm : cMem (cd A (gB A i))
  · obtain ⟨na, na1, na2⟩ := bi.2.1
    obtain ⟨v1, v2, v3⟩ := rk_g2 w 9 (by decide)
    have v3' : zI h 201 19 na (zR h 1 1 9 p) = aA A 9 na := v3 na na1
    have ea : val A ((gB A i).1 10) = aA A 9 na := by unfold val; rw [na2, ix_nI (by omega)]
    have e4 : zI h 4 1 4 (zR h 8 1 0 (bq.getD i 0)) = iK A 4 (gB A i) := kv 4 (by decide)
    have e10 := fr_i fr (k := 10) (by decide)
    have w1 := rk_wF (v := aA A 9 na + iK A 4 (gB A i)) w hi (k := 17) (by decide) (by decide)
    have ef : fAd A (gB A i) = uF (gB A i) 17 (aA A 9 na + iK A 4 (gB A i)) := by unfold fAd; rw [if_pos dm, ea]
    obtain ⟨h', f1, f2, f3⟩ := fin _ (by rw [ef]; exact w1) (ChB.rf.sI (by simp)) rfl
    refine ⟨h', ?_, f2, f3⟩
    simp only [j_X1_begin, gd_true, ult, ubd, ukd, uwr, url, unz, uhI, uhR, uhL, upI, upR, upL, eKI, eKR, eKL, eNI, eNR, eNL, eTI, eTR, eTL, eIR, eIL, eRI, eRL, eLI, eLR, rIw, rRw, rLw, decide_true, decide_false, ne_eq, not_false_eq_true, not_true_eq_false, true_and, and_true, and_false, false_and, and_self, if_true, if_false, reduceIte, Nat.reduceEqDiff, decide_not, Bool.not_true, Bool.not_false, fr.1, ki, x4_mem ki hcd, if01, if_neg (fun z => z dm : ¬ ¬ cMem (cd A (gB A i))), rk_wk w, e10, na2, v1, v2, inb_nI (show na < aln 9 from na1) (by decide), ix_nI (show na < 2 ^ 31 by omega), v3', e4]
    exact f1
  · have ef : fAd A (gB A i) = gB A i := by unfold fAd; rw [if_neg dm]
    obtain ⟨h', f1, f2, f3⟩ := fin h (by rw [ef, up_self (by omega)]; exact w) ChB.rf rfl
    refine ⟨h', ?_, f2, f3⟩
    simp only [j_X1_begin, gd_true, ult, ubd, ukd, uwr, url, unz, uhI, uhR, uhL, upI, upR, upL, eKI, eKR, eKL, eNI, eNR, eNL, eTI, eTR, eTL, eIR, eIL, eRI, eRL, eLI, eLR, rIw, rRw, rLw, decide_true, decide_false, ne_eq, not_false_eq_true, not_true_eq_false, true_and, and_true, and_false, false_and, and_self, if_true, if_false, reduceIte, Nat.reduceEqDiff, decide_not, Bool.not_true, Bool.not_false, fr.1, ki, x4_mem ki hcd, if01, if_pos dm]
    exact f1
end KBEG4
/-! the queue -/
theorem qsOf_app : ∀ (a : List Nat) (b : List FL) (qs : List Nat) (fs : List FL), a.length = b.length → qsOf (a ++ qs) (b ++ fs) = qsOf a b ++ qsOf qs fs
  | [], [], qs, fs, _ => by cases qs <;> rfl
  | q :: a, f :: b, qs, fs, h => by
    have ih := qsOf_app a b qs fs (by simpa using h)
    show (if f.1 14 = 113 then q :: qsOf (a ++ qs) (b ++ fs) else qsOf (a ++ qs) (b ++ fs)) = (if f.1 14 = 113 then q :: qsOf a b else qsOf a b) ++ qsOf qs fs
    rw [ih]
    split <;> rfl
def qpos (bq : List Nat) (fs : List FL) (i : Nat) : Nat := (qsOf (bq.take i) (fs.take i)).length
theorem q_split {bq : List Nat} {fs : List FL} {i : Nat} (hl : bq.length = fs.length) (hi : i < bq.length) : qsOf bq fs = qsOf (bq.take i) (fs.take i) ++ ((if (fs.getD i FL0).1 14 = 113 then [bq.getD i 0] else []) ++ qsOf (bq.drop (i + 1)) (fs.drop (i + 1))) := by
  have e1 : bq = bq.take i ++ bq.getD i 0 :: bq.drop (i + 1) := by
    have e1 := (List.take_append_drop i bq).symm
    have e2 : bq.drop i = bq.getD i 0 :: bq.drop (i + 1) := by rw [getD_lt hi]; exact List.drop_eq_getElem_cons hi
    rw [e2] at e1
    exact e1
  have e2 : fs = fs.take i ++ fs.getD i FL0 :: fs.drop (i + 1) := by
    have hi2 : i < fs.length := by omega
    have e1 := (List.take_append_drop i fs).symm
    have e2 : fs.drop i = fs.getD i FL0 :: fs.drop (i + 1) := by rw [getD_lt hi2]; exact List.drop_eq_getElem_cons hi2
    rw [e2] at e1
    exact e1
  have e3 : qsOf bq fs = qsOf (bq.take i ++ bq.getD i 0 :: bq.drop (i + 1)) (fs.take i ++ fs.getD i FL0 :: fs.drop (i + 1)) := by rw [← e1, ← e2]
  rw [e3, qsOf_app _ _ _ _ (by rw [List.length_take, List.length_take, hl])]
  congr 1
  show (if (fs.getD i FL0).1 14 = 113 then bq.getD i 0 :: qsOf _ _ else qsOf _ _) = _
  split <;> rfl
theorem q_at {bq : List Nat} {fs : List FL} {i : Nat} (hl : bq.length = fs.length) (hi : i < bq.length) (h : (fs.getD i FL0).1 14 = 113) : qpos bq fs i < (qsOf bq fs).length ∧ (qsOf bq fs).getD (qpos bq fs i) 0 = bq.getD i 0 := by
  have e := q_split hl hi
  rw [if_pos h] at e
  unfold qpos
  rw [e]
  generalize qsOf (bq.take i) (fs.take i) = X
  refine ⟨by simp, ?_⟩
  rw [List.getD, List.getElem?_append_right (Nat.le_refl _)]
  simp
theorem q_pos {bq : List Nat} {fs : List FL} {i : Nat} (hl : bq.length = fs.length) (hi : i < bq.length) : qpos bq fs (i + 1) = qpos bq fs i + (if (fs.getD i FL0).1 14 = 113 then 1 else 0) := by
  unfold qpos
  rw [take_succ_getD (d := 0) hi, take_succ_getD (d := FL0) (by omega : i < fs.length), qsOf_app _ _ _ _ (by rw [List.length_take, List.length_take, hl]), List.length_append]
  congr 1
  show (if (fs.getD i FL0).1 14 = 113 then bq.getD i 0 :: qsOf [] [] else qsOf [] []).length = _
  split <;> rfl
theorem q_set {bq : List Nat} {fs : List FL} {i : Nat} {g : FL} : qpos bq (fs.set i g) i = qpos bq fs i := by
  unfold qpos
  rw [List.take_set_of_le (Nat.le_refl _)]
theorem q_er {bq : List Nat} {fs : List FL} {i : Nat} {g : FL} (hl : bq.length = fs.length) (hi : i < bq.length) (h : (fs.getD i FL0).1 14 = 113) (hg : g.1 14 ≠ 113) : qsOf bq (fs.set i g) = (qsOf bq fs).eraseIdx (qpos bq fs i) := by
  have e1 := q_split hl hi
  have e2 := q_split (fs := fs.set i g) (bq := bq) (i := i) (by rw [List.length_set]; exact hl) hi
  rw [if_pos h] at e1
  rw [getD_set (by omega), if_pos rfl, if_neg hg, List.take_set_of_le (Nat.le_refl _), List.drop_set_of_lt (Nat.lt_succ_self _)] at e2
  rw [e2, e1]
  unfold qpos
  generalize qsOf (bq.take i) (fs.take i) = X
  rw [List.eraseIdx_append_of_length_le (Nat.le_refl _)]
  simp

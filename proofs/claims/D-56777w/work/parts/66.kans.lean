/-! ANSWERS -/
set_option maxRecDepth 100000
section ANS
variable {ic e0 sp p l : Nat}
theorem rq_buf {h : zH} {A : AS} {bq lq pl el : List Nat} (w : RQ h p ic e0 sp A bq lq pl el) : ∃ ns, LL h 54 (zR h 1 1 15 p) bq ns := rk_g7 w.1
theorem rq_k {h : zH} {A : AS} {bq lq pl el : List Nat} (w : RQ h p ic e0 sp A bq lq pl el) : zK h p = (1, 1) := rk_wk w.1
theorem rq_s {h : zH} {A : AS} {bq lq pl el : List Nat} (w : RQ h p ic e0 sp A bq lq pl el) {k : Nat} (hk : k ∈ skl) : zI h 1 1 k p = aS A k := (rk_g1 w.1).1 k hk
theorem rq_wf {h : zH} {A : AS} {bq lq pl el : List Nat} (w : RQ h p ic e0 sp A bq lq pl el) : zWf h := rk_w0 w.1
theorem rq_fr {h : zH} {A : AS} {bq lq pl el : List Nat} (w : RQ h p ic e0 sp A bq lq pl el) {i : Nat} (hi : i < bq.length) : FR h pl (bq.getD i 0) (gB A i) := buf_fr w.1 hi
theorem rq_len {h : zH} {A : AS} {bq lq pl el : List Nat} (w : RQ h p ic e0 sp A bq lq pl el) : bq.length = (aBuf A).length := buf_len w.1
theorem come_l {x : Int32} {bq lq pl el ns : List Nat} {it bl : Nat} : ∀ (n i : Nat) (h : zH) (A : AS) (lr : Nat), RQ h p ic e0 sp A bq lq pl el → LL h 54 bl bq ns → IT h 54 it bl ns i lr → i ≤ bq.length → bq.length < n + i →
    ∃ h', j_X1_come_l8 n h p x it = some h' ∧ RQ h' p ic e0 sp (aFor (aCome1 x) (bq.length - i) i A) bq lq pl el ∧ Ch [(8, 1), (16, 54)] h h'
  | 0, i, h, A, lr, w, wl, v, h1, h2 => by omega
  | n + 1, i, h, A, lr, w, wl, v, h1, h2 => by
    show ∃ h', j_X1_come_b8 (j_X1_come_l8 n) h p x it = some h' ∧ _
    have hn := it_hasNext wl v h1
    by_cases c : i < bq.length
    · rw [if_pos c] at hn
      obtain ⟨h1', e1, wl1, v1, c1⟩ := it_next wl v (by decide) c
      have w1 := rq_its' w c1 (by decide)
      have f := rq_fr w1 c
      have k1 := rq_k w1
      have s26 := rq_s w1 (k := 26) (by decide)
      have hs : bq.length - i = (bq.length - (i + 1)) + 1 := by omega
      have hA : aFor (aCome1 x) (bq.length - i) i A = aFor (aCome1 x) (bq.length - (i + 1)) (i + 1) (aCome1 x i A) := by rw [hs]; rfl
      rw [hA]
      have hl := rq_len w
      have e14 := fr_i f (k := 14) (by decide)
      have e20 := fr_i f (k := 20) (by decide)
      have kf := f.1
      by_cases d : (gB A i).1 14 = 109 ∧ (gB A i).1 20 = x
      · have w2 := rq_wF (v := 120) w1 c (k := 14) (by decide) (by decide) (Or.inr ⟨by decide, by rw [d.1]; decide⟩)
        have w3 := rq_wF (v := aS A 26) w2 c (k := 15) (by decide) (by decide) (Or.inl (by decide))
        rw [gB_up (by rw [← hl]; exact c), up_up] at w3
        have c2 : Ch [(8, 1), (16, 54)] h1' (sI (sI h1' 8 1 14 (bq.getD i 0) 120) 8 1 15 (bq.getD i 0) (aS A 26)) := (Ch.rf.sI (by simp)).sI (by simp)
        have c3 : Ch [(8, 1)] h1' (sI (sI h1' 8 1 14 (bq.getD i 0) 120) 8 1 15 (bq.getD i 0) (aS A 26)) := (Ch.rf.sI (by simp)).sI (by simp)
        obtain ⟨h', f1, f2, f3⟩ := come_l n (i + 1) _ _ _ w3 (wl1.keep c3 (by decide) (by decide)) (v1.keep c3 (by decide) (by decide)) (by omega) (by omega)
        refine ⟨h', ?_, ?_, (c1.sub (by simp)).tr (c2.tr f3)⟩
        · simp only [j_X1_come_b8, j_X1_come_j58, hn, e1, gd_true, ult, ubd, ukd, uwr, url, unz, uhI, uhR, uhL, upI, upR, upL, eKI, eKR, eKL, eNI, eNR, eNL, eTI, eTR, eTL, eIR, eIL, eRI, eRL, eLI, eLR, rIw, rRw, rLw, decide_true, decide_false, ne_eq, not_false_eq_true, not_true_eq_false, true_and, and_true, and_false, false_and, and_self, if_true, if_false, reduceIte, Nat.reduceEqDiff, decide_not, Bool.not_true, Bool.not_false, v.1, kf, e14, e20, d.1, d.2, k1, s26, (by decide : ¬ (1 : Int32) = 0)]
          exact f1
        · have : aCome1 x i A = upB A i (uF (uF (gB A i) 14 120) 15 (aS A 26)) := if_pos d
          rw [this]; exact f2
      · obtain ⟨h', f1, f2, f3⟩ := come_l n (i + 1) _ _ _ w1 wl1 v1 (by omega) (by omega)
        refine ⟨h', ?_, ?_, (c1.sub (by simp)).tr f3⟩
        · simp only [j_X1_come_b8, j_X1_come_j58, hn, e1, gd_true, ult, ubd, ukd, uwr, url, unz, uhI, uhR, uhL, upI, upR, upL, eKI, eKR, eKL, eNI, eNR, eNL, eTI, eTR, eTL, eIR, eIL, eRI, eRL, eLI, eLR, rIw, rRw, rLw, decide_true, decide_false, ne_eq, not_false_eq_true, not_true_eq_false, true_and, and_true, and_false, false_and, and_self, if_true, if_false, reduceIte, Nat.reduceEqDiff, decide_not, Bool.not_true, Bool.not_false, v.1, kf, e14, e20, (by decide : ¬ (1 : Int32) = 0)]
          by_cases d1 : (gB A i).1 14 = 109
          · rw [if_pos d1, if_neg (fun z => d ⟨d1, z⟩)]; exact f1
          · rw [if_neg d1]; exact f1
        · have : aCome1 x i A = A := if_neg d
          rw [this]; exact f2
    · rw [if_neg c] at hn
      have hs : bq.length - i = 0 := by omega
      refine ⟨h, ?_, by rw [hs]; exact w, Ch.rf⟩
      simp only [j_X1_come_b8, hn, gd_true, ult, ubd, ukd, uwr, url, unz, uhI, uhR, uhL, upI, upR, upL, eKI, eKR, eKL, eNI, eNR, eNL, eTI, eTR, eTL, eIR, eIL, eRI, eRL, eLI, eLR, rIw, rRw, rLw, decide_true, decide_false, ne_eq, not_false_eq_true, not_true_eq_false, true_and, and_true, and_false, false_and, and_self, if_true, if_false, reduceIte, Nat.reduceEqDiff, decide_not, Bool.not_true, Bool.not_false, v.1]
theorem k_come {h : zH} {A : AS} {bq lq pl el : List Nat} {x : Int32} (w : RQ h p ic e0 sp A bq lq pl el) : ∃ h', j_X1_come h p x = some h' ∧ RQ h' p ic e0 sp (aCome x A) bq lq pl el ∧ Ch [(8, 1), (16, 54)] h h' := by
  obtain ⟨ns, wl⟩ := rq_buf w
  have hb := rk_lb w.1
  obtain ⟨h1, it, e1, wl1, v1, c1⟩ := ll_iterator wl (rq_wf w) (by decide) (by omega)
  have w1 := rq_its' w c1 (by decide)
  obtain ⟨h', f1, f2, f3⟩ := come_l (x := x) 18 0 h1 A 0 w1 wl1 v1 (by omega) (by omega)
  refine ⟨h', ?_, ?_, (c1.sub (by simp)).tr f3⟩
  · simp only [j_X1_come, gd_true, ult, ubd, ukd, uwr, url, unz, uhI, uhR, uhL, upI, upR, upL, eKI, eKR, eKL, eNI, eNR, eNL, eTI, eTR, eTL, eIR, eIL, eRI, eRL, eLI, eLR, rIw, rRw, rLw, decide_true, decide_false, ne_eq, not_false_eq_true, not_true_eq_false, true_and, and_true, and_false, false_and, and_self, if_true, if_false, reduceIte, Nat.reduceEqDiff, decide_not, Bool.not_true, Bool.not_false, rq_k w, wl.1, e1]
    exact f1
  · rw [Nat.sub_zero, rq_len w] at f2
    exact f2
/-! lines -/
theorem aCome_ask {x : Int32} {A : AS} : aAsk (aCome x A) = aAsk A ∧ aS (aCome x A) = aS A ∧ aA (aCome x A) = aA A := by
  have : ∀ n i B, aAsk (aFor (aCome1 x) n i B) = aAsk B ∧ aS (aFor (aCome1 x) n i B) = aS B ∧ aA (aFor (aCome1 x) n i B) = aA B := by
    intro n
    induction n with
    | zero => intro i B; exact ⟨rfl, rfl, rfl⟩
    | succ n ih =>
      intro i B
      obtain ⟨a1, a2, a3⟩ := ih (i + 1) (aCome1 x i B)
      have b : aAsk (aCome1 x i B) = aAsk B ∧ aS (aCome1 x i B) = aS B ∧ aA (aCome1 x i B) = aA B := by
        unfold aCome1
        split
        · exact ⟨rfl, rfl, rfl⟩
        · exact ⟨rfl, rfl, rfl⟩
      exact ⟨a1.trans b.1, a2.trans b.2.1, a3.trans b.2.2⟩
  exact this _ _ _
/-- lines that are asked for: their numbers lie between 0 and 15 -/
def askOk (A : AS) : Prop := ∀ q ∈ aAsk A, ∃ n, n < 16 ∧ q.1 = nI n
theorem irm_nI {n k : Nat} (hn : n < 2 ^ 31) (hk : 0 < k) (hk2 : k < 2 ^ 31) : irm (nI n) (nI k) = nI (n % k) := by
  have e1 : nI n / nI k = nI (n / k) := by
    refine Int32.toInt_inj.mp ?_
    have hle : n / k ≤ n := Nat.div_le_self n k
    have hlt : n / k < 2 ^ 31 := Nat.lt_of_le_of_lt hle hn
    rw [Int32.toInt_div, nI_toInt hn, nI_toInt hk2, nI_toInt hlt, Int.tdiv_eq_ediv_of_nonneg (by omega)]
    have e9 : ((n : Int) / (k : Int)) = ((n / k : Nat) : Int) := by norm_cast
    rw [e9]
    clear e9
    generalize n / k = m at hlt ⊢
    rw [Int.bmod_eq_of_le (by omega) (by omega)]
  unfold irm
  rw [e1]
  have e2 : nI (n / k) * nI k = nI (n / k * k) := (Int32.ofNat_mul _ _).symm
  have e3 : n = n % k + n / k * k := by rw [Nat.mul_comm]; exact (Nat.mod_add_div n k).symm
  rw [e2]
  have e4 : nI n = nI (n % k) + nI (n / k * k) := by rw [nI_add, ← e3]
  rw [e4, Int32.add_sub_cancel]
theorem ans_l {pl el : List Nat} {bq lq : List Nat} {it al : Nat} : ∀ (n i : Nat) (h : zH) (A : AS) (lr : Nat) (ql ns : List Nat), RQ h p ic e0 sp A bq lq pl el → askOk A → zR h 1 1 25 p = al → LL h 57 al ql ns → ql.length = (aAsk A).length → (∀ j, j < ql.length → zK h (ql.getD j 0) = (7, 1) ∧ zI h 7 1 0 (ql.getD j 0) = (gQ A j).1 ∧ zI h 7 1 1 (ql.getD j 0) = (gQ A j).2) → IT h 57 it al ns i lr → i ≤ ql.length → ql.length < n + i →
    ∃ h', j_X1_answer_l8 n h p it = some h' ∧ RQ h' p ic e0 sp (aAnsLoop (ql.length - i) i A) bq lq pl el
  | 0, i, h, A, lr, ql, ns, w, ao, ha, wl, hq, hv, v, h1, h2 => by omega
  | n + 1, i, h, A, lr, ql, ns, w, ao, ha, wl, hq, hv, v, h1, h2 => by
    show ∃ h', j_X1_answer_b8 (j_X1_answer_l8 n) h p it = some h' ∧ _
    have hn := it_hasNext wl v h1
    by_cases c : i < ql.length
    · rw [if_pos c] at hn
      obtain ⟨h1', e1, wl1, v1, c1⟩ := it_next wl v (by decide) c
      have w1 := rq_its' w c1 (by decide)
      have k1 := rq_k w1
      have s26 := rq_s w1 (k := 26) (by decide)
      have hv1 : ∀ j, j < ql.length → zK h1' (ql.getD j 0) = (7, 1) ∧ zI h1' 7 1 0 (ql.getD j 0) = (gQ A j).1 ∧ zI h1' 7 1 1 (ql.getD j 0) = (gQ A j).2 := fun j hj => by
        obtain ⟨a1, a2, a3⟩ := hv j hj
        exact ⟨c1.k a1 (by decide), by rw [c1.i (by decide)]; exact a2, by rw [c1.i (by decide)]; exact a3⟩
      obtain ⟨k7, q0, q1⟩ := hv1 i c
      have ha1 : zR h1' 1 1 25 p = al := by rw [c1.r (by decide)]; exact ha
      have hs : ql.length - i = (ql.length - (i + 1)) + 1 := by omega
      by_cases d : (gQ A i).2 = aS A 26
      · obtain ⟨h2', e2, wl2, v2, c2⟩ := it_remove wl1 v1 (by decide) c (Or.inl rfl)
        have el1 : (ql.eraseIdx i).length = ql.length - 1 := by rw [List.length_eraseIdx, if_pos c]
        have hgd : ∀ j, (ql.eraseIdx i).getD j 0 = if j < i then ql.getD j 0 else ql.getD (j + 1) 0 := fun j => getD_er
        have hga : ∀ j, ((aAsk A).eraseIdx i).getD j (0, 0) = if j < i then gQ A j else gQ A (j + 1) := fun j => getD_er
        have hv2 : ∀ j, j < (ql.eraseIdx i).length → zK h2' ((ql.eraseIdx i).getD j 0) = (7, 1) ∧ zI h2' 7 1 0 ((ql.eraseIdx i).getD j 0) = (((aAsk A).eraseIdx i).getD j (0, 0)).1 ∧ zI h2' 7 1 1 ((ql.eraseIdx i).getD j 0) = (((aAsk A).eraseIdx i).getD j (0, 0)).2 := fun j hj => by
          rw [hgd, hga, c2.i (by decide)]
          split
          · obtain ⟨a1, a2⟩ := hv1 j (by omega); exact ⟨c2.k a1 (by decide), a2⟩
          · obtain ⟨a1, a2⟩ := hv1 (j + 1) (by omega); exact ⟨c2.k a1 (by decide), a2⟩
        have ha2 : zR h2' 1 1 25 p = al := by rw [c2.r (by decide)]; exact ha1
        have hq2 : (ql.eraseIdx i).length = ((aAsk A).eraseIdx i).length := by rw [el1, List.length_eraseIdx, if_pos (by omega)]; omega
        have w2 : RQ h2' p ic e0 sp (wAsk A ((aAsk A).eraseIdx i)) bq lq pl el := rq_set8 w1 (c2.sub (by decide)) ⟨ql.eraseIdx i, ns.eraseIdx i, by rw [ha2]; exact wl2, hq2, hv2⟩
        obtain ⟨m, hm, em⟩ := ao (gQ A i) (by unfold gQ; rw [getD_lt (by omega)]; exact List.getElem_mem _)
        have k2 := rq_k w2
        have g24 := rk_g2 w2.1 24 (by decide)
        have w3 : RQ (sI h2' 201 34 (ix (irm (gQ A i).1 4)) (zR h2' 1 1 24 p) (gQ A i).1) p ic e0 sp _ bq lq pl el := rq_wA w2 (k := 24) (by decide)
        obtain ⟨h3, e3, w4, c4⟩ := k_come (x := (gQ A i).1) w3
        have hi4 : irm (gQ A i).1 4 = nI (m % 4) := by rw [em]; exact irm_nI (by omega) (by decide) (by decide)
        have hin : inb (irm (gQ A i).1 4) (aln 24) = true := by rw [hi4]; exact inb_nI (by show m % 4 < 4; omega) (by decide)
        have q0' : zI h2' 7 1 0 (ql.getD i 0) = (gQ A i).1 := by rw [c2.i (by decide)]; exact q0
        have k7' : zK h2' (ql.getD i 0) = (7, 1) := c2.k k7 (by decide)
        have cc : Ch [(201, 34), (8, 1), (16, 54)] h2' h3 := (Ch.rf.sI (by simp)).tr (c4.sub (by simp))
        have ao' : askOk (aCome (gQ A i).1 (wA (wAsk A ((aAsk A).eraseIdx i)) 24 (ix (irm (gQ A i).1 4)) (gQ A i).1)) := by
          intro q hq
          rw [aCome_ask.1] at hq
          exact ao q (List.mem_of_mem_eraseIdx hq)
        have hv3 : ∀ j, j < (ql.eraseIdx i).length → zK h3 ((ql.eraseIdx i).getD j 0) = (7, 1) ∧ zI h3 7 1 0 ((ql.eraseIdx i).getD j 0) = (gQ (aCome (gQ A i).1 (wA (wAsk A ((aAsk A).eraseIdx i)) 24 (ix (irm (gQ A i).1 4)) (gQ A i).1)) j).1 ∧ zI h3 7 1 1 ((ql.eraseIdx i).getD j 0) = (gQ (aCome (gQ A i).1 (wA (wAsk A ((aAsk A).eraseIdx i)) 24 (ix (irm (gQ A i).1 4)) (gQ A i).1)) j).2 := fun j hj => by
          obtain ⟨a1, a2, a3⟩ := hv2 j hj
          unfold gQ
          rw [aCome_ask.1, cc.i (by decide)]
          exact ⟨cc.k a1 (by decide), a2, a3⟩
        have al3 : (aAsk (aCome (gQ A i).1 (wA (wAsk A ((aAsk A).eraseIdx i)) 24 (ix (irm (gQ A i).1 4)) (gQ A i).1))).length = ql.length - 1 := by rw [aCome_ask.1]; show ((aAsk A).eraseIdx i).length = _; rw [← hq2, el1]
        obtain ⟨h', f1, f2⟩ := ans_l n i h3 _ 0 (ql.eraseIdx i) (ns.eraseIdx i) w4 ao' (by rw [cc.r (by decide)]; exact ha2) (wl2.keep cc (by decide) (by decide)) (by rw [al3, el1]) hv3 (v2.keep cc (by decide) (by decide)) (by omega) (by omega)
        refine ⟨h', ?_, ?_⟩
        · simp only [j_X1_answer_b8, j_X1_answer_j67, hn, e1, gd_true, ult, ubd, ukd, uwr, url, unz, uhI, uhR, uhL, upI, upR, upL, eKI, eKR, eKL, eNI, eNR, eNL, eTI, eTR, eTL, eIR, eIL, eRI, eRL, eLI, eLR, rIw, rRw, rLw, decide_true, decide_false, ne_eq, not_false_eq_true, not_true_eq_false, true_and, and_true, and_false, false_and, and_self, if_true, if_false, reduceIte, Nat.reduceEqDiff, decide_not, Bool.not_true, Bool.not_false, v.1, v1.1, k7, q1, k1, s26, d, e2, k2, k7', q0', g24.1, g24.2.1, hin, (by decide : ¬ (1 : Int32) = 0)]
          have e3' : j_X1_come (sI h2' 201 34 (ix (irm (gQ A i).1 4)) (zR h2' 1 1 24 p) (gQ A i).1) p (gQ A i).1 = some h3 := e3
          rw [e3']
          simp only [gd_true, ult, ubd, ukd, uwr, url, unz, uhI, uhR, uhL, upI, upR, upL, eKI, eKR, eKL, eNI, eNR, eNL, eTI, eTR, eTL, eIR, eIL, eRI, eRL, eLI, eLR, rIw, rRw, rLw, decide_true, decide_false, ne_eq, not_false_eq_true, not_true_eq_false, true_and, and_true, and_false, false_and, and_self, if_true, if_false, reduceIte, Nat.reduceEqDiff, decide_not, Bool.not_true, Bool.not_false]
          exact f1
        · have e9 : aAnsLoop (ql.length - i) i A = aAnsLoop (ql.length - (i + 1)) i (aCome (gQ A i).1 (wA (wAsk A ((aAsk A).eraseIdx i)) 24 (ix (irm (gQ A i).1 4)) (gQ A i).1)) := by
            rw [hs]
            show (if (gQ A i).2 = aS A 26 then _ else _) = _
            rw [if_pos d]
          rw [e9]
          rw [el1, show ql.length - 1 - i = ql.length - (i + 1) by omega] at f2
          exact f2
      · obtain ⟨h', f1, f2⟩ := ans_l n (i + 1) h1' A _ ql ns w1 ao ha1 wl1 hq hv1 v1 (by omega) (by omega)
        refine ⟨h', ?_, ?_⟩
        · simp only [j_X1_answer_b8, j_X1_answer_j67, hn, e1, gd_true, ult, ubd, ukd, uwr, url, unz, uhI, uhR, uhL, upI, upR, upL, eKI, eKR, eKL, eNI, eNR, eNL, eTI, eTR, eTL, eIR, eIL, eRI, eRL, eLI, eLR, rIw, rRw, rLw, decide_true, decide_false, ne_eq, not_false_eq_true, not_true_eq_false, true_and, and_true, and_false, false_and, and_self, if_true, if_false, reduceIte, Nat.reduceEqDiff, decide_not, Bool.not_true, Bool.not_false, v.1, k7, q1, k1, s26, d, (by decide : ¬ (1 : Int32) = 0)]
          exact f1
        · rw [hs]
          show RQ h' p ic e0 sp (if (gQ A i).2 = aS A 26 then _ else _) bq lq pl el
          rw [if_neg d]; exact f2
    · rw [if_neg c] at hn
      have hs : ql.length - i = 0 := by omega
      refine ⟨h, ?_, by rw [hs]; exact w⟩
      simp only [j_X1_answer_b8, hn, gd_true, ult, ubd, ukd, uwr, url, unz, uhI, uhR, uhL, upI, upR, upL, eKI, eKR, eKL, eNI, eNR, eNL, eTI, eTR, eTL, eIR, eIL, eRI, eRL, eLI, eLR, rIw, rRw, rLw, decide_true, decide_false, ne_eq, not_false_eq_true, not_true_eq_false, true_and, and_true, and_false, false_and, and_self, if_true, if_false, reduceIte, Nat.reduceEqDiff, decide_not, Bool.not_true, Bool.not_false, v.1]
theorem k_answer {h : zH} {A : AS} {bq lq pl el : List Nat} (w : RQ h p ic e0 sp A bq lq pl el) (ao : askOk A) (al : (aAsk A).length ≤ 2) : ∃ h', j_X1_answer h p = some h' ∧ RQ h' p ic e0 sp (aAnswer A) bq lq pl el := by
  obtain ⟨ql, ns, wl, hq, hv⟩ := rk_g8 w.1
  obtain ⟨h1, it, e1, wl1, v1, c1⟩ := ll_iterator wl (rq_wf w) (by decide) (by omega)
  have w1 := rq_its' w c1 (by decide)
  obtain ⟨h', f1, f2⟩ := ans_l 4 0 h1 A 0 ql ns w1 ao (c1.r (c := 1) (s := 1) (by decide) ▸ rfl) wl1 hq (fun j hj => by
    obtain ⟨a1, a2, a3⟩ := hv j hj
    exact ⟨c1.k a1 (by decide), by rw [c1.i (by decide)]; exact a2, by rw [c1.i (by decide)]; exact a3⟩) v1 (by omega) (by omega)
  refine ⟨h', ?_, ?_⟩
  · simp only [j_X1_answer, gd_true, ult, ubd, ukd, uwr, url, unz, uhI, uhR, uhL, upI, upR, upL, eKI, eKR, eKL, eNI, eNR, eNL, eTI, eTR, eTL, eIR, eIL, eRI, eRL, eLI, eLR, rIw, rRw, rLw, decide_true, decide_false, ne_eq, not_false_eq_true, not_true_eq_false, true_and, and_true, and_false, false_and, and_self, if_true, if_false, reduceIte, Nat.reduceEqDiff, decide_not, Bool.not_true, Bool.not_false, rq_k w, wl.1, e1]
    exact f1
  · rw [Nat.sub_zero, hq] at f2
    exact f2
end ANS

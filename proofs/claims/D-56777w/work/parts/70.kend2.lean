/-! ENDINGS, ALL -/
set_option maxRecDepth 100000
theorem aS_ne {A : AS} {k j : Nat} {v : Int32} (h : j ≠ k) : aS (wS A k v) j = aS A j := pu_ne h
theorem fB_up {A : AS} {i : Nat} {f g : FL} (b : fB A f) : fB (upB A i g) f := b
theorem fB.w {A : AS} {f : FL} (b : fB A f) {k : Nat} {v : Int32} (h1 : k = 14 ∨ k = 16 ∨ k = 18 ∨ k = 19 ∨ k = 9 ∨ k = 8 ∨ k = 15 ∨ k = 20 ∨ k = 17) (h2 : k = 14 → v = 98 → f.1 12 ≠ -1) : fB A (uF f k v) := by
  obtain ⟨b1, b2, b3, b4, b5, b6, b7⟩ := b
  have e : ∀ j, j ≠ k → (uF f k v).1 j = f.1 j := fun j hj => uF_ne hj
  have ec : cd A (uF f k v) = cd A f := by show iK A 0 (uF f k v) = iK A 0 f; unfold iK; rw [e 1 (by omega)]
  refine ⟨?_, ?_, ?_, ?_, ?_, ?_, ?_⟩
  · unfold dOk; rw [e 12 (by omega)]; exact b1
  · rw [e 10 (by omega)]; exact b2
  · rw [e 11 (by omega)]; exact b3
  · rw [e 3 (by omega)]; exact b4
  · rw [e 21 (by omega)]; exact b5
  · rw [ec, e 12 (by omega)]; exact b6
  · rw [e 12 (by omega)]
    by_cases c : k = 14
    · subst c; rw [uF_at]; exact h2 rfl
    · rw [e 14 (fun z => c z.symm)]; exact b7
theorem cntD_set {f : FL} : ∀ (l : List FL) (i : Nat), f.1 12 = (l.getD i FL0).1 12 → cntD (l.set i f) = cntD l
  | [], i, _ => rfl
  | g :: t, 0, h => by
    have h : f.1 12 = g.1 12 := h
    show (if f.1 12 = -1 then 0 else 1) + cntD t = (if g.1 12 = -1 then 0 else 1) + cntD t
    rw [h]
  | g :: t, i + 1, h => by
    have h : f.1 12 = (t.getD i FL0).1 12 := h
    show (if g.1 12 = -1 then 0 else 1) + cntD (t.set i f) = (if g.1 12 = -1 then 0 else 1) + cntD t
    rw [cntD_set t i h]
theorem bOk_up {A : AS} {i : Nat} {g : FL} (b : bOk A) (hg : fB A g) (e12 : g.1 12 = (gB A i).1 12) : bOk (upB A i g) := by
  refine ⟨b.1, fun f hf => ?_, ?_⟩
  · rcases List.mem_or_eq_of_mem_set (show f ∈ (aBuf A).set i g from hf) with z | z
    · exact b.2.1 f z
    · rw [z]; exact hg
  · show (aFree A).length + cntD ((aBuf A).set i g) ≤ 16
    rw [cntD_set _ _ e12]; exact b.2.2
section KEND2
variable {ic e0 sp p : Nat} {h : zH} {A : AS} {bq lq pl el : List Nat}
theorem aResult_f {f : FL} : (aResult A f).1 14 = f.1 14 ∧ (aResult A f).1 12 = f.1 12 ∧ (fB A f → fB A (aResult A f)) := by
  unfold aResult
  have w : ∀ {g : FL} (k : Nat) (v : Int32), k = 16 ∨ k = 18 → (g.1 14 = f.1 14 ∧ g.1 12 = f.1 12 ∧ (fB A f → fB A g)) → ((uF g k v).1 14 = f.1 14 ∧ (uF g k v).1 12 = f.1 12 ∧ (fB A f → fB A (uF g k v))) := fun k v hk z => ⟨by rw [uF_ne (by omega)]; exact z.1, by rw [uF_ne (by omega)]; exact z.2.1, fun b => (z.2.2 b).w (by omega) (by omega)⟩
  have r : f.1 14 = f.1 14 ∧ f.1 12 = f.1 12 ∧ (fB A f → fB A f) := ⟨rfl, rfl, id⟩
  split
  · split
    · split
      · exact w 18 _ (Or.inr rfl) (w 16 _ (Or.inl rfl) r)
      · exact w 16 _ (Or.inl rfl) r
    · exact w 16 _ (Or.inl rfl) r
  · split
    · exact w 16 _ (Or.inl rfl) r
    · exact w 18 _ (Or.inr rfl) r
theorem k_endOne (w : RQ h p ic e0 sp A bq lq pl el) (b : bOk A) {i0 : Nat} (hi0 : i0 < bq.length) (hx : (gB A i0).1 14 = 120) : ∃ h' bq' lq', j_X1_endOne h p (bq.getD i0 0) ic = some h' ∧ RQ h' p ic e0 sp (aEndOne i0 A) bq' lq' pl el ∧ Cut h h' bq bq' ∧ Ch ME h h' := by
  have f := rq_fr w hi0
  obtain ⟨ki, kv⟩ := rq_ins w hi0
  have hc : zI h 4 1 0 (zR h 8 1 0 (bq.getD i0 0)) = cd A (gB A i0) := kv 0 (by decide)
  have hl := rq_len w
  have bf := rq_fB w b hi0
  by_cases d : cRes (cd A (gB A i0))
  · obtain ⟨h1, e1, w1, c1, g1⟩ := k_find w b hi0
    have f1 := rq_fr w1 hi0
    have w2 := rq_wF (v := 98) w1 hi0 (k := 14) (by decide) (by decide) (Or.inr ⟨by decide, by rw [gB_up (by omega), aResult_f.1, hx]; decide⟩)
    rw [gB_up (by omega), up_up] at w2
    refine ⟨sI h1 8 1 14 (bq.getD i0 0) 98, bq, lq, ?_, ?_, Cut.rf (g1.w (by decide)), (c1.sub (by simp)).sI (by simp)⟩
    · simp only [j_X1_endOne, j_X1_endOne_j52, gd_true, ult, ubd, ukd, uwr, url, unz, uhI, uhR, uhL, upI, upR, upL, eKI, eKR, eKL, eNI, eNR, eNL, eTI, eTR, eTL, eIR, eIL, eRI, eRL, eLI, eLR, rIw, rRw, rLw, decide_true, decide_false, ne_eq, not_false_eq_true, not_true_eq_false, true_and, and_true, and_false, false_and, and_self, if_true, if_false, reduceIte, Nat.reduceEqDiff, decide_not, Bool.not_true, Bool.not_false, f.1, ki, x4_res ki hc, if01, if_neg (fun z => z d : ¬ ¬ cRes (cd A (gB A i0))), rq_k w, e1, f1.1]
    · unfold aEndOne
      rw [if_pos d]
      exact w2
  · have s26 := rq_s w (k := 26) (by decide)
    have w1 := rq_wF (v := 101) w hi0 (k := 14) (by decide) (by decide) (Or.inr ⟨by decide, by rw [hx]; decide⟩)
    have w2 := rq_wF (v := aS A 26) w1 hi0 (k := 9) (by decide) (by decide) (Or.inl (by decide))
    rw [gB_up (by omega), up_up] at w2
    have b2 : bOk (upB A i0 (uF (uF (gB A i0) 14 101) 9 (aS A 26))) := bOk_up b ((bf.w (Or.inl rfl) (fun _ z => absurd z (by decide))).w (by omega) (by omega)) (by rw [uF_ne (by decide), uF_ne (by decide)])
    have c2 : Ch ME h (sI (sI h 8 1 14 (bq.getD i0 0) 101) 8 1 9 (bq.getD i0 0) (aS A 26)) := (Ch.rf.sI (by simp)).sI (by simp)
    have e8 : j_X8_end h (bq.getD i0 0) (aS A 26) = some (sI (sI h 8 1 14 (bq.getD i0 0) 101) 8 1 9 (bq.getD i0 0) (aS A 26)) := by
      simp only [j_X8_end, gd_true, ult, ubd, ukd, uwr, url, unz, uhI, uhR, uhL, upI, upR, upL, eKI, eKR, eKL, eNI, eNR, eNL, eTI, eTR, eTL, eIR, eIL, eRI, eRL, eLI, eLR, rIw, rRw, rLw, decide_true, decide_false, ne_eq, not_false_eq_true, not_true_eq_false, true_and, and_true, and_false, false_and, and_self, if_true, if_false, reduceIte, Nat.reduceEqDiff, decide_not, Bool.not_true, Bool.not_false, f.1]
    have hc2 : zI (sI (sI h 8 1 14 (bq.getD i0 0) 101) 8 1 9 (bq.getD i0 0) (aS A 26)) 4 1 0 (zR h 8 1 0 (bq.getD i0 0)) = cd A (gB A i0) := by simp only [gd_true, ult, ubd, ukd, uwr, url, unz, uhI, uhR, uhL, upI, upR, upL, eKI, eKR, eKL, eNI, eNR, eNL, eTI, eTR, eTL, eIR, eIL, eRI, eRL, eLI, eLR, rIw, rRw, rLw, decide_true, decide_false, ne_eq, not_false_eq_true, not_true_eq_false, true_and, and_true, and_false, false_and, and_self, if_true, if_false, reduceIte, Nat.reduceEqDiff, decide_not, Bool.not_true, Bool.not_false]; exact hc
    have ki2 : zK (sI (sI h 8 1 14 (bq.getD i0 0) 101) 8 1 9 (bq.getD i0 0) (aS A 26)) (zR h 8 1 0 (bq.getD i0 0)) = (4, 1) := by simp only [gd_true, ult, ubd, ukd, uwr, url, unz, uhI, uhR, uhL, upI, upR, upL, eKI, eKR, eKL, eNI, eNR, eNL, eTI, eTR, eTL, eIR, eIL, eRI, eRL, eLI, eLR, rIw, rRw, rLw, decide_true, decide_false, ne_eq, not_false_eq_true, not_true_eq_false, true_and, and_true, and_false, false_and, and_self, if_true, if_false, reduceIte, Nat.reduceEqDiff, decide_not, Bool.not_true, Bool.not_false]; exact ki
    by_cases d2 : cSto (cd A (gB A i0))
    · obtain ⟨h', bq', lq', r1, r2, r3, r4⟩ := k_endStore (ic := ic) w2 b2 hi0
      refine ⟨h', bq', lq', ?_, ?_, r3.pre ((Fg.rf.w (by decide)).w (by decide)), c2.tr r4⟩
      · simp only [j_X1_endOne, j_X1_endOne_j52, ult, ubd, gd_true, ukd, uhI, uhR, decide_true, f.1, ki, x4_res ki hc, if01, if_pos d, rq_k w, s26, e8, rq_k w2, ki2, x4_sto ki2 hc2, if_neg (fun z => z d2 : ¬ ¬ cSto (cd A (gB A i0))), r1]
      · unfold aEndOne
        simp only [if_neg d, if_pos d2]
        exact r2
    · obtain ⟨h', bq', lq', r1, r2, r3, r4⟩ := k_endGo (ic := ic) w2 b2 hi0
      refine ⟨h', bq', lq', ?_, ?_, r3.pre ((Fg.rf.w (by decide)).w (by decide)), c2.tr r4⟩
      · simp only [j_X1_endOne, j_X1_endOne_j52, ult, ubd, gd_true, ukd, uhI, uhR, decide_true, f.1, ki, x4_res ki hc, if01, if_pos d, rq_k w, s26, e8, rq_k w2, ki2, x4_sto ki2 hc2, if_pos d2, r1]
      · unfold aEndOne
        simp only [if_neg d, if_neg d2]
        exact r2
/-! results are written -/
theorem aWrite1_b {i : Nat} (b : bOk A) (hi : i < (aBuf A).length) : bOk (aWrite1 A i) := by
  unfold aWrite1
  have e : bOk (wA (wA A 9 (ix ((gB A i).1 12)) (if (gB A i).1 16 = 0 then (gB A i).1 18 else 0)) 10 (ix ((gB A i).1 12)) 1) := by
    have ea : ∀ k, aA (wA (wA A 9 (ix ((gB A i).1 12)) (if (gB A i).1 16 = 0 then (gB A i).1 18 else 0)) 10 (ix ((gB A i).1 12)) 1) (50 + k) = aA A (50 + k) := fun k => (show u2 (u2 (aA A) 9 (ix ((gB A i).1 12)) (if (gB A i).1 16 = 0 then (gB A i).1 18 else 0)) 10 (ix ((gB A i).1 12)) 1 (50 + k) = aA A (50 + k) by rw [u2_k (by omega), u2_k (by omega)])
    refine ⟨b.1.eq rfl ea, fun f hf => ?_, b.2.2⟩
    obtain ⟨b1, b2, b3, b4, b5, b6, b7⟩ := b.2.1 f hf
    have ec : cd (wA (wA A 9 (ix ((gB A i).1 12)) (if (gB A i).1 16 = 0 then (gB A i).1 18 else 0)) 10 (ix ((gB A i).1 12)) 1) f = cd A f := by show aA _ (50 + 0) _ = aA A (50 + 0) _; rw [ea]
    exact ⟨b1, b2, b3, b4, b5, by rw [ec]; exact b6, b7⟩
  refine bOk_up e (((e.2.1 _ (gB_mem hi)).w (Or.inl rfl) (fun _ z => absurd z (by decide))).w (by omega) (by omega)) ?_
  rw [uF_ne (by decide), uF_ne (by decide)]
  rfl
theorem wr_l {it bl : Nat} {ns : List Nat} : ∀ (n i left : Nat) (h : zH) (A : AS) (lr : Nat), RQ h p ic e0 sp A bq lq pl el → bOk A → LL h 54 bl bq ns → IT h 54 it bl ns i lr → i ≤ bq.length → left ≤ 2 → bq.length < n + i →
    ∃ h', j_X1_writeResults_l10 n h p (nI left) it = some h' ∧ RQ h' p ic e0 sp (aWrite (bq.length - i) left i A) bq lq pl el
  | 0, i, left, h, A, lr, w, b, wl, v, h1, h0, h2 => by omega
  | n + 1, i, left, h, A, lr, w, b, wl, v, h1, h0, h2 => by
    show ∃ h', j_X1_writeResults_b10 (j_X1_writeResults_l10 n) h p (nI left) it = some h' ∧ _
    have hn := it_hasNext wl v h1
    by_cases c : i < bq.length
    · rw [if_pos c] at hn
      obtain ⟨h1', e1, wl1, v1, c1⟩ := it_next wl v (by decide) c
      have w1 := rq_its' w c1 (by decide)
      have f := rq_fr w1 c
      have bf := rq_fB w1 b c
      have e14 := fr_i f (k := 14) (by decide)
      have e12 := fr_i f (k := 12) (by decide)
      have e16 := fr_i f (k := 16) (by decide)
      have e18 := fr_i f (k := 18) (by decide)
      have hs : bq.length - i = (bq.length - (i + 1)) + 1 := by omega
      have hl := rq_len w
      have z10 : ¬ (1 : Int32) = 0 := by decide
      have eL : (nI left ≤ 0) = (left = 0) := by rw [← nI_0, nI_leI (by omega) (by omega)]; exact propext ⟨fun q => by omega, fun q => by omega⟩
      by_cases d1 : (gB A i).1 14 = 98
      · by_cases d2 : left = 0
        · obtain ⟨h', f1, f2⟩ := wr_l n (i + 1) left h1' A _ w1 b wl1 v1 (by omega) h0 (by omega)
          refine ⟨h', ?_, ?_⟩
          · simp only [j_X1_writeResults_b10, j_X1_writeResults_j88, hn, e1, gd_true, ult, ubd, ukd, uwr, url, unz, uhI, uhR, uhL, upI, upR, upL, eKI, eKR, eKL, eNI, eNR, eNL, eTI, eTR, eTL, eIR, eIL, eRI, eRL, eLI, eLR, rIw, rRw, rLw, decide_true, decide_false, ne_eq, not_false_eq_true, not_true_eq_false, true_and, and_true, and_false, false_and, and_self, if_true, if_false, reduceIte, Nat.reduceEqDiff, decide_not, Bool.not_true, Bool.not_false, v.1, f.1, e14, if_pos d1, if_neg z10, eL, if_pos d2]
            exact f1
          · rw [hs]
            show RQ h' p ic e0 sp (if (gB A i).1 14 = 98 ∧ left ≠ 0 then _ else _) bq lq pl el
            rw [if_neg (fun z => z.2 d2)]; exact f2
        · obtain ⟨m, m1, m2⟩ := bf.1.resolve_left (bf.2.2.2.2.2.2 d1)
          have g9 := rk_g2 w1.1 9 (by decide)
          have k10 : zK h1' (zR h1' 1 1 10 p) = (11, 51) := (rk_g4 w1.1).1.1
          have s26 := rq_s w1 (k := 26) (by decide)
          have fin : ∀ v, v = (if (gB A i).1 16 = 0 then (gB A i).1 18 else 0) → ∃ h', j_X1_writeResults_j68 (j_X1_writeResults_l10 n) h1' p (nI (left - 1)) it (bq.getD i 0) v ((gB A i).1 12) (zR h1' 1 1 9 p) = some h' ∧ RQ h' p ic e0 sp (aWrite (bq.length - (i + 1)) (left - 1) (i + 1) (aWrite1 A i)) bq lq pl el := by
            intro v hv
            have w2 : RQ (sI h1' 201 19 m (zR h1' 1 1 9 p) v) p ic e0 sp (wA A 9 m v) bq lq pl el := rq_wA w1 (k := 9) (by decide)
            obtain ⟨h3, e3, w3, c3⟩ := rq_bit10 w2 (j := m) m1
            have f3 : FR h3 pl (bq.getD i 0) (gB A i) := rq_fr w3 c
            have s3 := rq_s w3 (k := 26) (by decide)
            have s3' : zI h3 1 1 26 p = aS A 26 := s3
            have w4 := rq_wF (v := 101) w3 c (k := 14) (by decide) (by decide) (Or.inr ⟨by decide, by show (gB A i).1 14 ≠ 113; rw [d1]; decide⟩)
            have w5 := rq_wF (v := aS A 26) w4 c (k := 9) (by decide) (by decide) (Or.inl (by decide))
            rw [gB_up (by show i < (aBuf A).length; omega), up_up] at w5
            have e5 : upB (wA (wA A 9 m v) 10 m 1) i (uF (uF (gB (wA (wA A 9 m v) 10 m 1) i) 14 101) 9 (aS A 26)) = aWrite1 A i := by
              have em : ix ((gB A i).1 12) = m := by rw [m2]; exact ix_nI (by omega)
              show _ = upB (wA (wA A 9 (ix ((gB A i).1 12)) (if (gB A i).1 16 = 0 then (gB A i).1 18 else 0)) 10 (ix ((gB A i).1 12)) 1) i (uF (uF (gB A i) 14 101) 9 (aS A 26))
              rw [em, hv]
              rfl
            rw [e5] at w5
            have cc : Ch [(201, 19), (11, 51), (203, 51), (8, 1)] h1' (sI (sI h3 8 1 14 (bq.getD i 0) 101) 8 1 9 (bq.getD i 0) (aS A 26)) := (((Ch.rf.sI (by simp)).tr (c3.sub (by simp))).sI (by simp)).sI (by simp)
            obtain ⟨h', f1, f2⟩ := wr_l n (i + 1) (left - 1) _ _ _ w5 (aWrite1_b b (by omega)) (wl1.keep cc (by decide) (by decide)) (v1.keep cc (by decide) (by decide)) (by omega) (by omega) (by omega)
            refine ⟨h', ?_, f2⟩
            have e3' : j_J3_set (sI h1' 201 19 m (zR h1' 1 1 9 p) v) (zR h1' 1 1 10 p) (nI m) = some h3 := e3
            simp only [j_X1_writeResults_j68, j_X1_writeResults_j88, j_X8_end, gd_true, ult, ubd, ukd, uwr, url, unz, uhI, uhR, uhL, upI, upR, upL, eKI, eKR, eKL, eNI, eNR, eNL, eTI, eTR, eTL, eIR, eIL, eRI, eRL, eLI, eLR, rIw, rRw, rLw, decide_true, decide_false, ne_eq, not_false_eq_true, not_true_eq_false, true_and, and_true, and_false, false_and, and_self, if_true, if_false, reduceIte, Nat.reduceEqDiff, decide_not, Bool.not_true, Bool.not_false, g9.1, g9.2.1, m2, inb_nI (show m < aln 9 from m1) (by decide), ix_nI (show m < 2 ^ 31 by omega), rq_k w1, f.1, k10, e12]
            rw [e3']
            simp only [gd_true, ult, ubd, ukd, uwr, url, unz, uhI, uhR, uhL, upI, upR, upL, eKI, eKR, eKL, eNI, eNR, eNL, eTI, eTR, eTL, eIR, eIL, eRI, eRL, eLI, eLR, rIw, rRw, rLw, decide_true, decide_false, ne_eq, not_false_eq_true, not_true_eq_false, true_and, and_true, and_false, false_and, and_self, if_true, if_false, reduceIte, Nat.reduceEqDiff, decide_not, Bool.not_true, Bool.not_false, rq_k w3, f3.1, s3']
            exact f1
          have eM : nI left + -1 = nI (left - 1) := by
            have : left = (left - 1) + 1 := by omega
            rw [this, nI_succ, Int32.add_assoc]
            show nI (left - 1) + (0 : Int32) = _
            rw [Int32.add_zero]; rfl
          obtain ⟨h', f1, f2⟩ := fin _ rfl
          refine ⟨h', ?_, ?_⟩
          · simp only [j_X1_writeResults_b10, hn, e1, gd_true, ult, ubd, ukd, uwr, url, unz, uhI, uhR, uhL, upI, upR, upL, eKI, eKR, eKL, eNI, eNR, eNL, eTI, eTR, eTL, eIR, eIL, eRI, eRL, eLI, eLR, rIw, rRw, rLw, decide_true, decide_false, ne_eq, not_false_eq_true, not_true_eq_false, true_and, and_true, and_false, false_and, and_self, if_true, if_false, reduceIte, Nat.reduceEqDiff, decide_not, Bool.not_true, Bool.not_false, v.1, f.1, e14, if_pos d1, if_neg z10, eL, if_neg d2, rq_k w1, e16, e18, e12, eM]
            by_cases d3 : (gB A i).1 16 = 0
            · rw [if_pos d3] at f1; rw [if_pos d3]; exact f1
            · rw [if_neg d3] at f1; rw [if_neg d3]; exact f1
          · rw [hs]
            show RQ h' p ic e0 sp (if (gB A i).1 14 = 98 ∧ left ≠ 0 then _ else _) bq lq pl el
            rw [if_pos ⟨d1, d2⟩]; exact f2
      · obtain ⟨h', f1, f2⟩ := wr_l n (i + 1) left h1' A _ w1 b wl1 v1 (by omega) h0 (by omega)
        refine ⟨h', ?_, ?_⟩
        · simp only [j_X1_writeResults_b10, j_X1_writeResults_j88, hn, e1, gd_true, ult, ubd, ukd, uwr, url, unz, uhI, uhR, uhL, upI, upR, upL, eKI, eKR, eKL, eNI, eNR, eNL, eTI, eTR, eTL, eIR, eIL, eRI, eRL, eLI, eLR, rIw, rRw, rLw, decide_true, decide_false, ne_eq, not_false_eq_true, not_true_eq_false, true_and, and_true, and_false, false_and, and_self, if_true, if_false, reduceIte, Nat.reduceEqDiff, decide_not, Bool.not_true, Bool.not_false, v.1, f.1, e14, if_neg d1, if_neg z10]
          exact f1
        · rw [hs]
          show RQ h' p ic e0 sp (if (gB A i).1 14 = 98 ∧ left ≠ 0 then _ else _) bq lq pl el
          rw [if_neg (fun z => d1 z.1)]; exact f2
    · rw [if_neg c] at hn
      have hs : bq.length - i = 0 := by omega
      refine ⟨h, ?_, by rw [hs]; exact w⟩
      simp only [j_X1_writeResults_b10, hn, gd_true, ult, ubd, ukd, uwr, url, unz, uhI, uhR, uhL, upI, upR, upL, eKI, eKR, eKL, eNI, eNR, eNL, eTI, eTR, eTL, eIR, eIL, eRI, eRL, eLI, eLR, rIw, rRw, rLw, decide_true, decide_false, ne_eq, not_false_eq_true, not_true_eq_false, true_and, and_true, and_false, false_and, and_self, if_true, if_false, reduceIte, Nat.reduceEqDiff, decide_not, Bool.not_true, Bool.not_false, v.1]
theorem k_write (w : RQ h p ic e0 sp A bq lq pl el) (b : bOk A) : ∃ h', j_X1_writeResults h p = some h' ∧ RQ h' p ic e0 sp (aWrite (aBuf A).length 2 0 A) bq lq pl el := by
  obtain ⟨ns, wl⟩ := rq_buf w
  have hb := rk_lb w.1
  obtain ⟨h1, it, e1, wl1, v1, c1⟩ := ll_iterator wl (rq_wf w) (by decide) (by omega)
  have w1 := rq_its' w c1 (by decide)
  obtain ⟨h', f1, f2⟩ := wr_l 18 0 2 h1 A 0 w1 b wl1 v1 (by omega) (by omega) (by omega)
  refine ⟨h', ?_, by rw [Nat.sub_zero, rq_len w] at f2; exact f2⟩
  simp only [j_X1_writeResults, gd_true, ult, ubd, ukd, uwr, url, unz, uhI, uhR, uhL, upI, upR, upL, eKI, eKR, eKL, eNI, eNR, eNL, eTI, eTR, eTL, eIR, eIL, eRI, eRL, eLI, eLR, rIw, rRw, rLw, decide_true, decide_false, ne_eq, not_false_eq_true, not_true_eq_false, true_and, and_true, and_false, false_and, and_self, if_true, if_false, reduceIte, Nat.reduceEqDiff, decide_not, Bool.not_true, Bool.not_false, rq_k w, wl.1, e1]
  exact f1
/-! what endOne leaves of the others -/
theorem aThrLoop_eq : ∀ (n : Nat) (B : AS), aBuf (aThrLoop n B) = (aBuf B).take ((aBuf B).length - n) ∧ aS (aThrLoop n B) 26 = aS B 26
  | 0, B => ⟨by rw [Nat.sub_zero, List.take_length]; rfl, rfl⟩
  | n + 1, B => by
    obtain ⟨a1, a2⟩ := aThrLoop_eq n (aUndo (gB B ((aBuf B).length - 1)) (wBuf B (aBuf B).dropLast))
    have e1 : aBuf (aUndo (gB B ((aBuf B).length - 1)) (wBuf B (aBuf B).dropLast)) = (aBuf B).dropLast := aUndo_buf.1
    have e2 : aS (aUndo (gB B ((aBuf B).length - 1)) (wBuf B (aBuf B).dropLast)) 26 = aS B 26 := by
      unfold aUndo
      split
      · exact (aS_ne (A := B) (j := 26) (k := 34) (v := aS B 34 + 1) (by decide))
      · exact (aS_ne (A := B) (j := 26) (k := 34) (v := aS B 34 + 1) (by decide))
    refine ⟨?_, a2.trans e2⟩
    show aBuf (aThrLoop n (aUndo (gB B ((aBuf B).length - 1)) (wBuf B (aBuf B).dropLast))) = _
    rw [a1, e1, List.length_dropLast, List.dropLast_eq_take, List.take_take]
    congr 1; omega
theorem aThrow_eq {i : Nat} {B : AS} : aBuf (aThrow i B) = (aBuf B).take i ∧ aS (aThrow i B) 26 = aS B 26 := by
  obtain ⟨a1, a2⟩ := aThrLoop_eq ((aBuf B).length - i) (wLine B [])
  refine ⟨?_, a2⟩
  show aBuf (aThrLoop ((aBuf B).length - i) (wLine B [])) = _
  rw [a1]
  show (aBuf B).take ((aBuf B).length - ((aBuf B).length - i)) = _
  by_cases c : i ≤ (aBuf B).length
  · congr 1; omega
  · rw [List.take_of_length_le (by omega), List.take_of_length_le (by omega)]
/-- the buffer behind it: a prefix, with one flight other -/
def Pre1 (A B : AS) (i : Nat) : Prop := aS B 26 = aS A 26 ∧ (∀ j, j < (aBuf B).length → j ≠ i → gB B j = gB A j)
theorem gB_take {B C : AS} {m j : Nat} (e : aBuf B = (aBuf C).take m) (hj : j < (aBuf B).length) : gB B j = gB C j := by
  show (aBuf B).getD j FL0 = (aBuf C).getD j FL0
  rw [e] at hj ⊢
  rw [List.length_take] at hj
  exact take_getD (by omega)
theorem pre_up {i : Nat} {g : FL} (hi : i < (aBuf A).length) : Pre1 A (upB A i g) i := ⟨rfl, fun j hj hn => gB_ne hi hn⟩
theorem Pre1.thr {B C : AS} {i : Nat} (w : Pre1 A B i) {m : Nat} (e : aBuf C = (aBuf B).take m) (e2 : aS C 26 = aS B 26) : Pre1 A C i := ⟨e2.trans w.1, fun j hj hn => by
  rw [gB_take e hj]
  refine w.2 j ?_ hn
  rw [e, List.length_take] at hj
  omega⟩
theorem endOne_pre {i : Nat} (hi : i < (aBuf A).length) : Pre1 A (aEndOne i A) i := by
  unfold aEndOne
  dsimp only
  split
  · exact pre_up hi
  · have p0 : Pre1 A (upB A i (uF (uF (gB A i) 14 101) 9 (aS A 26))) i := pre_up hi
    have hl : i < (aBuf (upB A i (uF (uF (gB A i) 14 101) 9 (aS A 26)))).length := by rw [up_len]; exact hi
    generalize upB A i (uF (uF (gB A i) 14 101) 9 (aS A 26)) = B at p0 hl
    have up : ∀ g, Pre1 A (upB B i g) i := fun g => ⟨p0.1, fun j hj hn => by rw [gB_ne hl hn]; exact p0.2 j (by rw [up_len] at hj; exact hj) hn⟩
    split
    · unfold aEndStore
      dsimp only
      split
      · exact up _
      · split
        · exact p0
        · refine p0.thr (m := _) (by show aBuf (aThrow _ _) = _; rw [aThrow_eq.1]; rfl) ?_
          refine (aS_ne (j := 26) (k := 17) (by decide)).trans ?_
          rw [aThrow_eq.2]
          exact (aS_ne (A := B) (j := 26) (k := 33) (v := aS B 33 + 1) (by decide))
    · unfold aEndGo
      dsimp only
      split
      · refine (up _).thr (m := _) (by show aBuf (aThrow _ _) = _; rw [aThrow_eq.1]; rfl) ?_
        refine (aS_ne (j := 26) (k := 17) (by decide)).trans ?_
        rw [aThrow_eq.2]
        exact (aS_ne (A := B) (j := 26) (k := 32) (v := aS B 32 + 1) (by decide))
      · exact up _
end KEND2

/-! ENDALL, THE LOOP -/
set_option maxRecDepth 100000
theorem fB.eq {A B : AS} {f : FL} (b : fB A f) (ea : ∀ k, aA B (50 + k) = aA A (50 + k)) : fB B f := by
  obtain ⟨b1, b2, b3, b4, b5, b6, b7⟩ := b
  have ec : cd B f = cd A f := by show aA B (50 + 0) _ = aA A (50 + 0) _; rw [ea]
  exact ⟨b1, b2, b3, b4, b5, by rw [ec]; exact b6, b7⟩
theorem bOk.eq {A B : AS} (b : bOk A) (e0 : aS B 0 = aS A 0) (ea : ∀ k, aA B (50 + k) = aA A (50 + k)) (eb : aBuf B = aBuf A) (ef : aFree B = aFree A) : bOk B := ⟨b.1.eq e0 ea, by rw [eb]; exact fun f hf => (b.2.1 f hf).eq ea, by rw [ef, eb]; exact b.2.2⟩
theorem bOk_step {A : AS} (b : bOk A) (h0 : 0 < (aBuf A).length) : bOk (aUndo (gB A ((aBuf A).length - 1)) (wBuf A (aBuf A).dropLast)) := by
  have t := th_step b.th h0
  obtain ⟨b1, b2, b3, b4⟩ := aUndo_buf (f := gB A ((aBuf A).length - 1)) (A := wBuf A (aBuf A).dropLast)
  refine ⟨t.1, fun f hf => ?_, t.2.2⟩
  rw [b1] at hf
  exact (b.2.1 f (mem_dl hf)).eq (fun k => b3 k)
theorem bOk_thr : ∀ (n : Nat) (A : AS), bOk A → n ≤ (aBuf A).length → bOk (aThrLoop n A)
  | 0, A, b, _ => b
  | n + 1, A, b, h => by
    show bOk (aThrLoop n (aUndo (gB A ((aBuf A).length - 1)) (wBuf A (aBuf A).dropLast)))
    refine bOk_thr n _ (bOk_step b (by omega)) ?_
    rw [aUndo_buf.1]
    show n ≤ (aBuf A).dropLast.length
    rw [List.length_dropLast]; omega
theorem bOk_throw {A : AS} (i : Nat) (b : bOk A) : bOk (aThrow i A) := bOk_thr _ _ (b.eq rfl (fun _ => rfl) rfl rfl) (by show (aBuf A).length - i ≤ (aBuf A).length; omega)
theorem bOk_wS {A : AS} {k : Nat} {v : Int32} (b : bOk A) (h : k ≠ 0) : bOk (wS A k v) := b.eq (aS_ne (j := 0) (Ne.symm h)) (fun _ => rfl) rfl rfl
theorem bOk_wA {A : AS} {k j : Nat} {v : Int32} (b : bOk A) (h : k < 50) : bOk (wA A k j v) := b.eq rfl (fun i => (show u2 (aA A) k j v (50 + i) = aA A (50 + i) from u2_k (by omega))) rfl rfl
theorem bOk_wRet {A : AS} {l : List Int32} (b : bOk A) : bOk (wRet A l) := b.eq rfl (fun _ => rfl) rfl rfl
theorem aFound_f {A : AS} {f : FL} : (aFound A f).1 12 = f.1 12 ∧ (fB A f → fB A (aFound A f)) := by
  unfold aFound
  split
  · exact ⟨by rw [uF_ne (by decide), uF_ne (by decide)], fun b => (b.w (by omega) (by omega)).w (by omega) (by omega)⟩
  · split
    · exact ⟨by rw [uF_ne (by decide)], fun b => b.w (by omega) (by omega)⟩
    · exact ⟨rfl, id⟩
theorem bOk_endOne {A : AS} {i : Nat} (b : bOk A) (hi : i < (aBuf A).length) : bOk (aEndOne i A) := by
  have bf := b.2.1 _ (gB_mem hi)
  unfold aEndOne
  dsimp only
  split
  · rename_i d
    refine bOk_up b ((aResult_f.2.2 bf).w (Or.inl rfl) (fun _ _ => ?_)) (by rw [uF_ne (by decide)]; exact aResult_f.2.1)
    rw [aResult_f.2.1]; exact bf.2.2.2.2.2.1 d
  · have b2 : bOk (upB A i (uF (uF (gB A i) 14 101) 9 (aS A 26))) := bOk_up b ((bf.w (Or.inl rfl) (fun _ z => absurd z (by decide))).w (by omega) (by omega)) (by rw [uF_ne (by decide), uF_ne (by decide)])
    have hl : i < (aBuf (upB A i (uF (uF (gB A i) 14 101) 9 (aS A 26)))).length := by rw [up_len]; exact hi
    generalize upB A i (uF (uF (gB A i) 14 101) 9 (aS A 26)) = B at b2 hl
    have bg := b2.2.1 _ (gB_mem hl)
    split
    · unfold aEndStore
      dsimp only
      split
      · exact bOk_up b2 (bg.w (by omega) (by omega)) (by rw [uF_ne (by decide)])
      · split
        · exact b2
        · exact bOk_wS (bOk_throw _ (bOk_wRet (bOk_wA (bOk_wS b2 (by decide)) (by decide)))) (by decide)
    · unfold aEndGo
      dsimp only
      have b3 : bOk (upB B i (aFound B (gB B i))) := bOk_up b2 (aFound_f.2 bg) aFound_f.1
      split
      · exact bOk_wS (bOk_throw _ (bOk_wRet (bOk_wS b3 (by decide)))) (by decide)
      · exact b3
theorem take_take_le {α : Type} {l : List α} {a m : Nat} : ∃ m', (l.take a).take m = l.take m' ∧ m' = min m a := ⟨min m a, by rw [List.take_take], rfl⟩
section KEND4
variable {ic e0 sp cm p : Nat}
theorem ea_l {bq0 pl el : List Nat} {fs0 : List FL} {it al : Nat} {X : List Nat} (nd : bq0.Nodup) (hl0 : bq0.length = fs0.length) (cy : Int32) : ∀ (d n i k m : Nat) (h : zH) (A : AS) (bq lq : List Nat), bq0.length - i = d → i ≤ bq0.length → RQ h p ic e0 sp A bq lq pl el → bOk A → bq = bq0.take m → aS A 26 = cy →
    (∀ j, i ≤ j → j < bq.length → (gB A j).1 14 = (fs0.getD j FL0).1 14 ∧ (gB A j).1 15 = (fs0.getD j FL0).1 15) → (∀ j, j < bq0.length → m ≤ j → zI h 8 1 22 (bq0.getD j 0) = 1) → (∀ x ∈ bq0, zK h x = (8, 1)) →
    AL h e0 59 al X → IA h 59 it al k → X.drop k = xsOf cy (bq0.drop i) (fs0.drop i) → k ≤ X.length → X.length < n + k →
    ∃ h' bq' lq', j_X1_endAll_l10 n h e0 ic cm p it = some h' ∧ RQ h' p ic e0 sp (let B := aFor aEnd1 d i A; aWrite (aBuf B).length 2 0 B) bq' lq' pl el
  | 0, n, i, k, m, h, A, bq, lq, hd, hi, w, b, hb, hc, hf, hg, hk, wa, v, hX, hk1, hn => by
    obtain ⟨n, rfl⟩ : ∃ n', n = n' + 1 := ⟨n - 1, by omega⟩
    have e1 : bq0.drop i = [] := List.drop_eq_nil_of_le (by omega)
    rw [e1] at hX
    have hX : X.drop k = [] := hX
    have hkl : ¬ k < X.length := by have := List.drop_eq_nil_iff.mp hX; omega
    have hh := ia_hasNext wa v hk1
    rw [if_neg hkl] at hh
    obtain ⟨h', f1, f2⟩ := k_write w b
    refine ⟨h', bq, lq, ?_, f2⟩
    show j_X1_endAll_b10 (j_X1_endAll_l10 n) h e0 ic cm p it = some h'
    simp only [j_X1_endAll_b10, hh, gd_true, ult, ubd, ukd, uwr, url, unz, uhI, uhR, uhL, upI, upR, upL, eKI, eKR, eKL, eNI, eNR, eNL, eTI, eTR, eTL, eIR, eIL, eRI, eRL, eLI, eLR, rIw, rRw, rLw, decide_true, decide_false, ne_eq, not_false_eq_true, not_true_eq_false, true_and, and_true, and_false, false_and, and_self, if_true, if_false, reduceIte, Nat.reduceEqDiff, decide_not, Bool.not_true, Bool.not_false, v.1, rq_k w, f1]
  | d + 1, n, i, k, m, h, A, bq, lq, hd, hi, w, b, hb, hc, hf, hg, hk, wa, v, hX, hk1, hn => by
    have hi0 : i < bq0.length := by omega
    have hif : i < fs0.length := by omega
    have hlq := rq_len w
    have hml : bq.length = min m bq0.length := by rw [hb, List.length_take]
    have eq0 : bq0.drop i = bq0.getD i 0 :: bq0.drop (i + 1) := by rw [getD_lt hi0]; exact List.drop_eq_getElem_cons hi0
    have ef0 : fs0.drop i = fs0.getD i FL0 :: fs0.drop (i + 1) := by rw [getD_lt hif]; exact List.drop_eq_getElem_cons hif
    rw [eq0, ef0] at hX
    have hX : X.drop k = if (fs0.getD i FL0).1 14 = 120 ∧ (fs0.getD i FL0).1 15 = cy then bq0.getD i 0 :: xsOf cy (bq0.drop (i + 1)) (fs0.drop (i + 1)) else xsOf cy (bq0.drop (i + 1)) (fs0.drop (i + 1)) := hX
    have eA : aFor aEnd1 (d + 1) i A = aFor aEnd1 d (i + 1) (aEnd1 i A) := rfl
    rw [eA]
    by_cases c : (fs0.getD i FL0).1 14 = 120 ∧ (fs0.getD i FL0).1 15 = cy
    · rw [if_pos c] at hX
      have hkl : k < X.length := by
        by_cases z : k < X.length
        · exact z
        · rw [List.drop_eq_nil_of_le (by omega)] at hX; cases hX
      have hXk : X.getD k 0 = bq0.getD i 0 ∧ X.drop (k + 1) = xsOf cy (bq0.drop (i + 1)) (fs0.drop (i + 1)) := by
        rw [List.drop_eq_getElem_cons hkl] at hX
        have := List.cons.inj hX
        rw [getD_lt hkl]
        exact this
      obtain ⟨n, rfl⟩ : ∃ n', n = n' + 1 := ⟨n - 1, by omega⟩
      have hh := ia_hasNext wa v hk1
      rw [if_pos hkl] at hh
      obtain ⟨h1, e1, wa1, v1, c1⟩ := ia_next wa v (by decide) hkl
      rw [hXk.1] at e1
      have w1 := rq_its' w c1 (by decide)
      have kq : zK h1 (bq0.getD i 0) = (8, 1) := c1.k (hk _ (getD_mem hi0)) (by decide)
      have hk' : ∀ x ∈ bq0, zK h1 x = (8, 1) := fun x hx => c1.k (hk x hx) (by decide)
      have hg1 : ∀ j, j < bq0.length → m ≤ j → zI h1 8 1 22 (bq0.getD j 0) = 1 := fun j h1 h2 => by rw [c1.i (by decide)]; exact hg j h1 h2
      have z10 : ¬ (1 : Int32) = 0 := by decide
      by_cases dl : i < m
      · have hib : i < bq.length := by omega
        have ebq : bq.getD i 0 = bq0.getD i 0 := by rw [hb]; exact take_getD dl
        have fr := rq_fr w1 hib
        rw [ebq] at fr
        have f22 := fr.2.2.2.2.2.2.1
        obtain ⟨hf1, hf2⟩ := hf i (Nat.le_refl _) hib
        obtain ⟨h2, bq2, lq2, r1, r2, ⟨⟨m2, r3, r3'⟩, r3g⟩, r4⟩ := k_endOne (ic := ic) w1 b hib (by rw [hf1]; exact c.1)
        rw [ebq] at r1
        have ea1 : aEnd1 i A = aEndOne i A := if_pos ⟨by rw [← hlq]; exact hib, by rw [hf1]; exact c.1, by rw [hf2, hc]; exact c.2⟩
        have pr := endOne_pre (A := A) (i := i) (by omega)
        have hb2 : bq2 = bq0.take (min m2 m) := by rw [r3, hb, List.take_take]
        have cc : Ch ME h1 h2 := r4
        obtain ⟨h', bq', lq', f1, f2⟩ := ea_l nd hl0 cy d n (i + 1) (k + 1) (min m2 m) h2 (aEndOne i A) bq2 lq2 (by omega) (by omega) r2 (bOk_endOne b (by omega)) hb2 (pr.1.trans hc) (fun j h3 h4 => by
            have h5 : j < (aBuf (aEndOne i A)).length := by rw [← rq_len r2]; exact h4
            rw [pr.2 j h5 (by omega)]
            refine hf j (by omega) ?_
            rw [r3, List.length_take] at h4
            omega) (fun j h3 h4 => by
            by_cases h5 : m ≤ j
            · exact r3g _ (hg1 j h3 h5)
            · have h6 : j < bq.length := by omega
              have := r3' j h6 (by omega)
              rw [hb, take_getD (by omega)] at this
              exact this) (fun x hx => cc.k (hk' x hx) (by decide)) (wa1.keep cc (by decide) (by decide)) (v1.keep cc (by decide) (by decide)) hXk.2 (by omega) (by omega)
        refine ⟨h', bq', lq', ?_, by rw [ea1]; exact f2⟩
        show j_X1_endAll_b10 (j_X1_endAll_l10 n) h e0 ic cm p it = some h'
        simp only [j_X1_endAll_b10, j_X1_endAll_j41, hh, e1, gd_true, ult, ubd, ukd, uwr, url, unz, uhI, uhR, uhL, upI, upR, upL, eKI, eKR, eKL, eNI, eNR, eNL, eTI, eTR, eTL, eIR, eIL, eRI, eRL, eLI, eLR, rIw, rRw, rLw, decide_true, decide_false, ne_eq, not_false_eq_true, not_true_eq_false, true_and, and_true, and_false, false_and, and_self, if_true, if_false, reduceIte, Nat.reduceEqDiff, decide_not, Bool.not_true, Bool.not_false, v.1, kq, f22, rq_k w1, r1, if_neg z10]
        exact f1
      · have f22 := hg1 i hi0 (by omega)
        have ea1 : aEnd1 i A = A := if_neg (fun z => by have := z.1; omega)
        obtain ⟨h', bq', lq', f1, f2⟩ := ea_l nd hl0 cy d n (i + 1) (k + 1) m h1 A bq lq (by omega) (by omega) w1 b hb hc (fun j h3 h4 => hf j (by omega) h4) hg1 hk' wa1 v1 hXk.2 (by omega) (by omega)
        refine ⟨h', bq', lq', ?_, by rw [ea1]; exact f2⟩
        show j_X1_endAll_b10 (j_X1_endAll_l10 n) h e0 ic cm p it = some h'
        simp only [j_X1_endAll_b10, j_X1_endAll_j41, hh, e1, gd_true, ult, ubd, ukd, uwr, url, unz, uhI, uhR, uhL, upI, upR, upL, eKI, eKR, eKL, eNI, eNR, eNL, eTI, eTR, eTL, eIR, eIL, eRI, eRL, eLI, eLR, rIw, rRw, rLw, decide_true, decide_false, ne_eq, not_false_eq_true, not_true_eq_false, true_and, and_true, and_false, false_and, and_self, if_true, if_false, reduceIte, Nat.reduceEqDiff, decide_not, Bool.not_true, Bool.not_false, v.1, kq, f22, if_neg z10]
        exact f1
    · rw [if_neg c] at hX
      have ea1 : aEnd1 i A = A := if_neg (fun z => by
        have hib : i < bq.length := by rw [hlq]; exact z.1
        obtain ⟨hf1, hf2⟩ := hf i (Nat.le_refl _) hib
        exact c ⟨by rw [← hf1]; exact z.2.1, by rw [← hf2, ← hc]; exact z.2.2⟩)
      rw [ea1]
      exact ea_l nd hl0 cy d n (i + 1) k m h A bq lq (by omega) (by omega) w b hb hc (fun j h3 h4 => hf j (by omega) h4) hg hk wa v hX hk1 hn
theorem k_endAll {h : zH} {A : AS} {bq lq pl el : List Nat} (w : RQ h p ic e0 sp A bq lq pl el) (b : bOk A) : ∃ h' bq' lq', j_X1_endAll h p e0 ic cm = some h' ∧ RQ h' p ic e0 sp (aEndAll A) bq' lq' pl el := by
  obtain ⟨h1, al, e1, w1, wa⟩ := k_ending (cm := cm) w
  obtain ⟨h2, it, e2, wa2, v2, c2⟩ := al_iterator wa (rq_wf w1) (by decide)
  have w2 := rq_its' w1 c2 (by decide)
  have hx := xsOf_len (c := aS A 26) bq (aBuf A)
  have hb := rk_lb w.1
  obtain ⟨h', bq', lq', f1, f2⟩ := ea_l (ic := ic) (e0 := e0) (cm := cm) (p := p) (nd_l w.1) (rq_len w) (aS A 26) bq.length 18 0 0 bq.length h2 A bq lq (by omega) (by omega) w2 b List.take_length.symm rfl (fun j h3 h4 => ⟨rfl, rfl⟩) (fun j h3 h4 => by omega) (fun x hx => by
    obtain ⟨i, hi, e⟩ := List.mem_iff_getElem.mp hx
    have := (rq_fr w2 hi).1
    rw [getD_lt hi, e] at this
    exact this) wa2 v2 (by rw [List.drop_zero, List.drop_zero, List.drop_zero]) (by omega) (by omega)
  refine ⟨h', bq', lq', ?_, ?_⟩
  · simp only [j_X1_endAll, gd_true, ult, ubd, ukd, uwr, url, unz, uhI, uhR, uhL, upI, upR, upL, eKI, eKR, eKL, eNI, eNR, eNL, eTI, eTR, eTL, eIR, eIL, eRI, eRL, eLI, eLR, rIw, rRw, rLw, decide_true, decide_false, ne_eq, not_false_eq_true, not_true_eq_false, true_and, and_true, and_false, false_and, and_self, if_true, if_false, reduceIte, Nat.reduceEqDiff, decide_not, Bool.not_true, Bool.not_false, rq_k w, e1, wa.1, e2]
    exact f1
  · rw [rq_len w] at f2
    exact f2
end KEND4

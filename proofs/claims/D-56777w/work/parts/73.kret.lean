/-! RETIRING -/
set_option maxRecDepth 100000
/-! the text of the reasons -/
theorem rsn_d : ∀ i, i < 8 → ∀ j, j < 8 → (rsn.getD i 0 = rsn.getD j 0) = (i = j) := by decide
theorem rsn_b : ∀ j, j < 8 → (rsn.getD j 0).toInt8.toInt32 = rsn.getD j 0 ∧ ¬ rsn.getD j 0 < 0 ∧ ¬ 255 < rsn.getD j 0 := by decide
theorem idx_l {h : zH} {sp j : Nat} (g : GS h sp) (hj : j < 8) : ∀ (n i : Nat), i ≤ j → j < n + i → j_J19_indexOfChar_l7 n h (zR h 20 0 0 sp) (nI 8) (rsn.getD j 0) (nI i) = some (h, nI j)
  | 0, i, h1, h2 => by omega
  | n + 1, i, h1, h2 => by
    obtain ⟨w1, w2, w3, w4, w5⟩ := g
    have e1 : ¬ nI 8 ≤ nI i := fun z => by have := (nI_leI (a := 8) (b := i) (by omega) (by omega)).mp z; omega
    have e2 : (zI h 207 0 i (zR h 20 0 0 sp) = rsn.getD j 0) = (i = j) := by rw [w5 i (by omega)]; exact rsn_d i (by omega) j hj
    show j_J19_indexOfChar_b7 (j_J19_indexOfChar_l7 n) h (zR h 20 0 0 sp) (nI 8) (rsn.getD j 0) (nI i) = _
    by_cases c : i = j
    · simp only [j_J19_indexOfChar_b7, gd_true, ult, ubd, ukd, uwr, url, unz, uhI, uhR, uhL, upI, upR, upL, eKI, eKR, eKL, eNI, eNR, eNL, eTI, eTR, eTL, eIR, eIL, eRI, eRL, eLI, eLR, rIw, rRw, rLw, decide_true, decide_false, ne_eq, not_false_eq_true, not_true_eq_false, true_and, and_true, and_false, false_and, and_self, if_true, if_false, reduceIte, Nat.reduceEqDiff, decide_not, Bool.not_true, Bool.not_false, w3, w4, e1, inb_nI (show i < 8 by omega) (by decide), ix_nI (show i < 2 ^ 31 by omega), e2, if_pos c]
      rw [c]
    · have e3 : nI i + 1 = nI (i + 1) := by rw [nI_succ]
      simp only [j_J19_indexOfChar_b7, gd_true, ult, ubd, ukd, uwr, url, unz, uhI, uhR, uhL, upI, upR, upL, eKI, eKR, eKL, eNI, eNR, eNL, eTI, eTR, eTL, eIR, eIL, eRI, eRL, eLI, eLR, rIw, rRw, rLw, decide_true, decide_false, ne_eq, not_false_eq_true, not_true_eq_false, true_and, and_true, and_false, false_and, and_self, if_true, if_false, reduceIte, Nat.reduceEqDiff, decide_not, Bool.not_true, Bool.not_false, w3, w4, e1, inb_nI (show i < 8 by omega) (by decide), ix_nI (show i < 2 ^ 31 by omega), e2, if_neg c, e3]
      exact idx_l ⟨w1, w2, w3, w4, w5⟩ hj n (i + 1) (by omega) (by omega)
theorem k_idx {h : zH} {sp j : Nat} (g : GS h sp) (hj : j < 8) : j_J7_indexOf h sp (rsn.getD j 0) = some (h, nI j) := by
  obtain ⟨w1, w2, w3, w4, w5⟩ := g
  obtain ⟨b1, b2, b3⟩ := rsn_b j hj
  have il := idx_l (h := h) (sp := sp) ⟨w1, w2, w3, w4, w5⟩ hj 100 0 (Nat.zero_le _) (by omega)
  have e0 : nI 0 = (0 : Int32) := nI_0
  have ea : isA h (zR h 20 0 0 sp) = true := isA_of w3 (by decide) (by decide)
  have e8 : nI 8 >>> ((0 : Int32) &&& 31) = nI 8 := by decide
  have m1 : imx (0 : Int32) 0 = 0 := by decide
  have m2 : imn (nI 8) (nI 8) = nI 8 := by decide
  have m3 : ((0 : Int32) < nI 8) = True := by decide
  have z1 : ¬ (1 : Int32) = 0 := by decide
  have y0 : byt 0 = true := by decide
  have y1 : b01 1 = true := by decide
  rw [e0] at il
  simp only [j_J7_indexOf, j_J7_indexOf_2, j_J7_indexOf_2_j36, j_J7_isLatin1, j_J7_isLatin1_j18, j_J7_length, j_J7_coder, j_J7_coder_j14, j_J19_indexOf, j_J19_canEncode, j_J19_canEncode_j16, j_J19_indexOfChar, gd_true, ult, ubd, ukd, uwr, url, unz, uhI, uhR, uhL, upI, upR, upL, eKI, eKR, eKL, eNI, eNR, eNL, eTI, eTR, eTL, eIR, eIL, eRI, eRL, eLI, eLR, rIw, rRw, rLw, decide_true, decide_false, ne_eq, not_false_eq_true, not_true_eq_false, true_and, and_true, and_false, false_and, and_self, if_true, if_false, reduceIte, Nat.reduceEqDiff, decide_not, Bool.not_true, Bool.not_false, w1, w2, w3, w4, ea, e8, m1, m2, m3, z1, y0, y1, b1, b2, b3, il]
section KRET
variable {ic e0 sp cm B p : Nat} {h : zH} {A : AS} {bq lq pl el : List Nat}
theorem k_lose (w : RQ h p ic e0 sp A bq lq pl el) {j : Nat} (hj : j < 8) : ∃ h', j_X1_lose h p (rsn.getD j 0) sp = some h' ∧ RQ h' p ic e0 sp (aLose j A) bq lq pl el := by
  have gs := rk_gs w.1
  obtain ⟨g1, g2, g3⟩ := rk_g2 w.1 31 (by decide)
  refine ⟨_, ?_, rq_wA w (k := 31) (by decide)⟩
  simp only [j_X1_lose, gd_true, ult, ubd, ukd, uwr, url, unz, uhI, uhR, uhL, upI, upR, upL, eKI, eKR, eKL, eNI, eNR, eNL, eTI, eTR, eTL, eIR, eIL, eRI, eRL, eLI, eLR, rIw, rRw, rLw, decide_true, decide_false, ne_eq, not_false_eq_true, not_true_eq_false, true_and, and_true, and_false, false_and, and_self, if_true, if_false, reduceIte, Nat.reduceEqDiff, decide_not, Bool.not_true, Bool.not_false, rq_k w, gs.1, k_idx gs hj, g1, g2, inb_nI (show j < aln 31 from hj) (by decide), ix_nI (show j < 2 ^ 31 by omega), g3 j hj]
/-! what may retire -/
theorem k_trap (w : RQ h p ic e0 sp A bq lq pl el) {q : Nat} {f : FL} (fr : FR h pl q f) : j_X1_trapOf h p q = some (h, aTrap A f) := by
  obtain ⟨ki, kv, -⟩ := fr_ins fr (rk_g10 w.1)
  have hc : zI h 4 1 0 (zR h 8 1 0 q) = cd A f := kv 0 (by decide)
  obtain ⟨k2, v2⟩ := rk_g3 w.1
  have v42 : zI h 2 1 2 (zR h 1 1 4 p) = aS A 42 := v2 2 (by decide)
  have e16 := fr_i fr (k := 16) (by decide)
  unfold aTrap
  by_cases d1 : cd A f = 20
  · simp only [j_X1_trapOf, gd_true, ult, ubd, ukd, uwr, url, unz, uhI, uhR, uhL, upI, upR, upL, eKI, eKR, eKL, eNI, eNR, eNL, eTI, eTR, eTL, eIR, eIL, eRI, eRL, eLI, eLR, rIw, rRw, rLw, decide_true, decide_false, ne_eq, not_false_eq_true, not_true_eq_false, true_and, and_true, and_false, false_and, and_self, if_true, if_false, reduceIte, Nat.reduceEqDiff, decide_not, Bool.not_true, Bool.not_false, fr.1, ki, hc, if_pos d1]
  · by_cases d2 : cd A f = 21
    · by_cases d3 : aS A 42 = 0
      · simp only [j_X1_trapOf, j_X1_trapOf_j44, gd_true, ult, ubd, ukd, uwr, url, unz, uhI, uhR, uhL, upI, upR, upL, eKI, eKR, eKL, eNI, eNR, eNL, eTI, eTR, eTL, eIR, eIL, eRI, eRL, eLI, eLR, rIw, rRw, rLw, decide_true, decide_false, ne_eq, not_false_eq_true, not_true_eq_false, true_and, and_true, and_false, false_and, and_self, if_true, if_false, reduceIte, Nat.reduceEqDiff, decide_not, Bool.not_true, Bool.not_false, fr.1, ki, hc, if_neg d1, if_pos d2, rq_k w, k2, v42, if_pos d3]
        rw [if_pos ⟨d2, d3⟩]
      · simp only [j_X1_trapOf, j_X1_trapOf_j44, j_X1_trapOf_j40, gd_true, ult, ubd, ukd, uwr, url, unz, uhI, uhR, uhL, upI, upR, upL, eKI, eKR, eKL, eNI, eNR, eNL, eTI, eTR, eTL, eIR, eIL, eRI, eRL, eLI, eLR, rIw, rRw, rLw, decide_true, decide_false, ne_eq, not_false_eq_true, not_true_eq_false, true_and, and_true, and_false, false_and, and_self, if_true, if_false, reduceIte, Nat.reduceEqDiff, decide_not, Bool.not_true, Bool.not_false, fr.1, ki, hc, if_neg d1, if_pos d2, rq_k w, k2, v42, if_neg d3, e16]
        rw [if_neg (fun z => d3 z.2)]
    · simp only [j_X1_trapOf, j_X1_trapOf_j44, j_X1_trapOf_j40, gd_true, ult, ubd, ukd, uwr, url, unz, uhI, uhR, uhL, upI, upR, upL, eKI, eKR, eKL, eNI, eNR, eNL, eTI, eTR, eTL, eIR, eIL, eRI, eRL, eLI, eLR, rIw, rRw, rLw, decide_true, decide_false, ne_eq, not_false_eq_true, not_true_eq_false, true_and, and_true, and_false, false_and, and_self, if_true, if_false, reduceIte, Nat.reduceEqDiff, decide_not, Bool.not_true, Bool.not_false, fr.1, ki, hc, if_neg d1, if_neg d2, e16]
      rw [if_neg (fun z => d2 z.1)]
theorem rq_bget (w : RQ h p ic e0 sp A bq lq pl el) {r : Int32} (hr : ∃ n, n < 24 ∧ r = nI n) : j_J3_get h (zR h 1 1 10 p) r = some (h, if rdy A r then 1 else 0) := by
  obtain ⟨n, n1, n2⟩ := hr
  have := bs_get (rk_g4 w.1).1 n1
  rw [n2, this]
  unfold rdy
  rw [ix_nI (by omega)]
  by_cases c : aA A 10 n = 1 <;> simp [c]
theorem k_lacks (w : RQ h p ic e0 sp A bq lq pl el) {q : Nat} {f : FL} (fr : FR h pl q f) (hb : ∃ n, n < 24 ∧ f.1 11 = nI n) : j_X1_lacksWord h p q = some (h, if aLacks A f then 1 else 0) := by
  obtain ⟨ki, kv, -⟩ := fr_ins fr (rk_g10 w.1)
  have hc : zI h 4 1 0 (zR h 8 1 0 q) = cd A f := kv 0 (by decide)
  have e16 := fr_i fr (k := 16) (by decide)
  have e11 := fr_i fr (k := 11) (by decide)
  have k10 : zK h (zR h 1 1 10 p) = (11, 51) := (rk_g4 w.1).1.1
  have y1 : b01 1 = true := by decide
  have y0 : b01 0 = true := by decide
  by_cases d1 : cSto (cd A f)
  · by_cases d2 : f.1 16 = 0
    · by_cases d3 : rdy A (f.1 11)
      · simp only [j_X1_lacksWord, j_X1_lacksWord_j35, j_X1_lacksWord_j36, gd_true, ult, ubd, ukd, uwr, url, unz, uhI, uhR, uhL, upI, upR, upL, eKI, eKR, eKL, eNI, eNR, eNL, eTI, eTR, eTL, eIR, eIL, eRI, eRL, eLI, eLR, rIw, rRw, rLw, decide_true, decide_false, ne_eq, not_false_eq_true, not_true_eq_false, true_and, and_true, and_false, false_and, and_self, if_true, if_false, reduceIte, Nat.reduceEqDiff, decide_not, Bool.not_true, Bool.not_false, fr.1, ki, x4_sto ki hc, if01, if_neg (fun z => z d1 : ¬ ¬ cSto (cd A f)), e16, if_pos d2, rq_k w, k10, e11, rq_bget w hb, if_neg (fun z => z d3 : ¬ ¬ rdy A (f.1 11)), y0]
        rw [if_neg (fun z => z.2.2 d3)]
      · simp only [j_X1_lacksWord, j_X1_lacksWord_j35, j_X1_lacksWord_j36, gd_true, ult, ubd, ukd, uwr, url, unz, uhI, uhR, uhL, upI, upR, upL, eKI, eKR, eKL, eNI, eNR, eNL, eTI, eTR, eTL, eIR, eIL, eRI, eRL, eLI, eLR, rIw, rRw, rLw, decide_true, decide_false, ne_eq, not_false_eq_true, not_true_eq_false, true_and, and_true, and_false, false_and, and_self, if_true, if_false, reduceIte, Nat.reduceEqDiff, decide_not, Bool.not_true, Bool.not_false, fr.1, ki, x4_sto ki hc, if01, if_neg (fun z => z d1 : ¬ ¬ cSto (cd A f)), e16, if_pos d2, rq_k w, k10, e11, rq_bget w hb, if_pos d3, y1]
        rw [if_pos ⟨d1, d2, d3⟩]
    · simp only [j_X1_lacksWord, j_X1_lacksWord_j35, j_X1_lacksWord_j36, gd_true, ult, ubd, ukd, uwr, url, unz, uhI, uhR, uhL, upI, upR, upL, eKI, eKR, eKL, eNI, eNR, eNL, eTI, eTR, eTL, eIR, eIL, eRI, eRL, eLI, eLR, rIw, rRw, rLw, decide_true, decide_false, ne_eq, not_false_eq_true, not_true_eq_false, true_and, and_true, and_false, false_and, and_self, if_true, if_false, reduceIte, Nat.reduceEqDiff, decide_not, Bool.not_true, Bool.not_false, fr.1, ki, x4_sto ki hc, if01, if_neg (fun z => z d1 : ¬ ¬ cSto (cd A f)), e16, if_neg d2, y0]
      rw [if_neg (fun z => d2 z.2.1)]
  · simp only [j_X1_lacksWord, j_X1_lacksWord_j35, j_X1_lacksWord_j36, gd_true, ult, ubd, ukd, uwr, url, unz, uhI, uhR, uhL, upI, upR, upL, eKI, eKR, eKL, eNI, eNR, eNL, eTI, eTR, eTL, eIR, eIL, eRI, eRL, eLI, eLR, rIw, rRw, rLw, decide_true, decide_false, ne_eq, not_false_eq_true, not_true_eq_false, true_and, and_true, and_false, false_and, and_self, if_true, if_false, reduceIte, Nat.reduceEqDiff, decide_not, Bool.not_true, Bool.not_false, fr.1, ki, x4_sto ki hc, if01, if_pos d1, y0]
    rw [if_neg (fun z => d1 z.1)]
theorem k_can (w : RQ h p ic e0 sp A bq lq pl el) {q : Nat} {f : FL} (fr : FR h pl q f) (hb : ∃ n, n < 24 ∧ f.1 11 = nI n) : j_X1_canRetire h p q = some (h, if f.1 14 = 101 ∧ ¬ aLacks A f then 1 else 0) := by
  have y1 : b01 1 = true := by decide
  have y0 : b01 0 = true := by decide
  by_cases d1 : f.1 14 = 101
  · by_cases d2 : aLacks A f
    · simp only [j_X1_canRetire, j_X1_canRetire_j19, j_X1_canRetire_j20, ult, ubd, ukd, decide_true, gd_true, fr.1, x8_over fr, if01, if_neg (fun z => z d1 : ¬ ¬ f.1 14 = 101), rq_k w, k_lacks w fr hb, if_neg (fun z => z d2 : ¬ ¬ aLacks A f), y0]
      rw [if_neg (fun z => z.2 d2)]
    · simp only [j_X1_canRetire, j_X1_canRetire_j19, j_X1_canRetire_j20, ult, ubd, ukd, decide_true, gd_true, fr.1, x8_over fr, if01, if_neg (fun z => z d1 : ¬ ¬ f.1 14 = 101), rq_k w, k_lacks w fr hb, if_pos d2, y1]
      rw [if_pos ⟨d1, d2⟩]
  · simp only [j_X1_canRetire, j_X1_canRetire_j19, j_X1_canRetire_j20, ult, ubd, ukd, decide_true, gd_true, fr.1, x8_over fr, if01, if_pos d1, y0]
    rw [if_neg (fun z => d1 z.1)]
/-- the stages of the buffer -/
def stB (f : FL) : Prop := f.1 14 = 101 ∨ f.1 14 = 113 ∨ f.1 14 = 120 ∨ f.1 14 = 109 ∨ f.1 14 = 98
theorem k_why (w : RQ h p ic e0 sp A bq lq pl el) (hs : ∀ f ∈ aBuf A, stB f) : ∃ j, j < 8 ∧ j = aWhy A ∧ j_X1_reasonNow h p = some (h, rsn.getD j 0) := by
  obtain ⟨ns, wl⟩ := rq_buf w
  have ie := ll_isEmpty wl
  have hl := rq_len w
  have z10 : ¬ (1 : Int32) = 0 := by decide
  by_cases c : bq = []
  · have ca : aBuf A = [] := List.length_eq_zero_iff.mp (by rw [← hl, c]; rfl)
    refine ⟨2, by decide, by unfold aWhy; rw [if_pos ca], ?_⟩
    simp only [j_X1_reasonNow, gd_true, ult, ubd, ukd, uwr, url, unz, uhI, uhR, uhL, upI, upR, upL, eKI, eKR, eKL, eNI, eNR, eNL, eTI, eTR, eTL, eIR, eIL, eRI, eRL, eLI, eLR, rIw, rRw, rLw, decide_true, decide_false, ne_eq, not_false_eq_true, not_true_eq_false, true_and, and_true, and_false, false_and, and_self, if_true, if_false, reduceIte, Nat.reduceEqDiff, decide_not, Bool.not_true, Bool.not_false, rq_k w, wl.1, ie, if_pos c, z10]
    rfl
  · have h0 : 0 < bq.length := List.length_pos_iff.mpr c
    have ca : ¬ aBuf A = [] := fun z => by rw [z] at hl; rw [hl] at h0; exact absurd h0 (by decide)
    have fr := rq_fr w h0
    have e14 := fr_i fr (k := 14) (by decide)
    have s := hs _ (gB_mem (A := A) (i := 0) (by omega))
    have go : ∀ v, (gB A 0).1 14 = v → v ≠ 101 → chr v = true → j_X1_reasonNow h p = some (h, v) := fun v hv h1 h2 => by
      simp only [j_X1_reasonNow, j_X1_reasonNow_j39, gd_true, ult, ubd, ukd, uwr, url, unz, uhI, uhR, uhL, upI, upR, upL, eKI, eKR, eKL, eNI, eNR, eNL, eTI, eTR, eTL, eIR, eIL, eRI, eRL, eLI, eLR, rIw, rRw, rLw, decide_true, decide_false, ne_eq, not_false_eq_true, not_true_eq_false, true_and, and_true, and_false, false_and, and_self, if_true, if_false, reduceIte, Nat.reduceEqDiff, decide_not, Bool.not_true, Bool.not_false, rq_k w, wl.1, ie, if_neg c, ll_first wl h0, fr.1, e14, hv, if_neg h1, h2]
    unfold aWhy
    rw [if_neg ca]
    dsimp only
    rcases s with e | e | e | e | e
    · refine ⟨7, by decide, by rw [if_pos e], ?_⟩
      have h2 : chr 100 = true := by decide
      simp only [j_X1_reasonNow, j_X1_reasonNow_j39, gd_true, ult, ubd, ukd, uwr, url, unz, uhI, uhR, uhL, upI, upR, upL, eKI, eKR, eKL, eNI, eNR, eNL, eTI, eTR, eTL, eIR, eIL, eRI, eRL, eLI, eLR, rIw, rRw, rLw, decide_true, decide_false, ne_eq, not_false_eq_true, not_true_eq_false, true_and, and_true, and_false, false_and, and_self, if_true, if_false, reduceIte, Nat.reduceEqDiff, decide_not, Bool.not_true, Bool.not_false, rq_k w, wl.1, ie, if_neg c, ll_first wl h0, fr.1, e14, if_pos e, h2]
      rfl
    · exact ⟨3, by decide, by rw [e]; decide, go _ e (by decide) (by decide)⟩
    · exact ⟨4, by decide, by rw [e]; decide, go _ e (by decide) (by decide)⟩
    · exact ⟨5, by decide, by rw [e]; decide, go _ e (by decide) (by decide)⟩
    · exact ⟨6, by decide, by rw [e]; decide, go _ e (by decide) (by decide)⟩
end KRET

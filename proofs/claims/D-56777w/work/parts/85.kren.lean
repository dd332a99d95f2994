/-! RENAMING -/
set_option maxRecDepth 100000
section KREN
variable {ic e0 sp p N : Nat} {h : zH} {A : AS} {bq lq pl el : List Nat}
theorem k_canRen (w : RQ h p ic e0 sp A bq lq pl el) (k : KI N A) {q : Nat} {f : FL} (fr : FR h pl q f) : j_X1_canRename h p q = some (h, if aCanRen A f then 1 else 0) := by
  obtain ⟨ki, kv, -⟩ := fr_ins fr (rk_g10 w.1)
  have hc : zI h 4 1 0 (zR h 8 1 0 q) = cd A f := kv 0 (by decide)
  have hl := rq_len w
  have hb16 := rk_lb w.1
  obtain ⟨n6, -, n62, n63, n64⟩ := k.z
  obtain ⟨n7, -, n72, n73, n74⟩ := k.q
  have s6 := rq_s w (k := 6) (by decide)
  have s7 := rq_s w (k := 7) (by decide)
  obtain ⟨ns, wl⟩ := rq_buf w
  obtain ⟨ms, ql⟩ := w.2
  have sz := ll_size wl
  have ie := ll_isEmpty wl
  have qz := ll_size ql
  have qc := qsOf_cnt bq (aBuf A) hl
  have q16 := qsOf_len bq (aBuf A)
  have y1 : b01 1 = true := by decide
  have y0 : b01 0 = true := by decide
  have z10 : ¬ (1 : Int32) = 0 := by decide
  have e6 : (nI bq.length = nI n6) = (bq.length = n6) := propext (nI_eq (by omega) (by omega))
  have x6 : ((aBuf A).length ≠ ix (aS A 6)) = ¬ (bq.length = n6) := by rw [n63, ix_nI (by omega), hl]
  have e7 : (nI (qsOf bq (aBuf A)).length = nI n7) = (aQueued A = n7) := by
    have : aQueued A = (qsOf bq (aBuf A)).length := qc.symm
    rw [this]
    exact propext (nI_eq (by omega) (by omega))
  have x7 : (aQueued A = ix (aS A 7)) = (aQueued A = n7) := by rw [n73, ix_nI (by omega)]
  have bn : (bq = []) = (aBuf A = []) := propext ⟨fun z => List.length_eq_zero_iff.mp (by rw [← hl, z]; rfl), fun z => List.length_eq_zero_iff.mp (by rw [hl, z]; rfl)⟩
  obtain ⟨f1, f2, a, fa⟩ := rk_g5 w.1
  have fe := ad_isEmpty fa
  have fn : ((aFree A).map (fun v => bx h ic (ix v)) = []) = (aFree A = []) := propext List.map_eq_nil_iff
  have e61 : j_X1_canRename_j61 h p (zR h 8 1 0 q) = some (h, if aBuf A = [] ∨ (¬ cAlo (cd A f) ∧ ¬ cAlo (cd A (gB A 0))) then 1 else 0) := by
    by_cases c1 : bq = []
    · rw [if_pos (Or.inl (bn ▸ c1))]
      simp only [j_X1_canRename_j61, j_X1_canRename_j97, j_X1_canRename_j102, gd_true, ult, ubd, ukd, uwr, url, unz, uhI, uhR, uhL, upI, upR, upL, eKI, eKR, eKL, eNI, eNR, eNL, eTI, eTR, eTL, eIR, eIL, eRI, eRL, eLI, eLR, rIw, rRw, rLw, decide_true, decide_false, ne_eq, not_false_eq_true, not_true_eq_false, true_and, and_true, and_false, false_and, and_self, if_true, if_false, reduceIte, Nat.reduceEqDiff, decide_not, Bool.not_true, Bool.not_false, rq_k w, wl.1, ie, if_pos c1, if_neg z10, y1]
    · have h0 : 0 < bq.length := List.length_pos_iff.mpr c1
      have c1' : ¬ aBuf A = [] := fun z => c1 (bn ▸ z)
      have f0 := rq_fr w h0
      obtain ⟨k0, v0⟩ := rq_ins w h0
      have hc0 : zI h 4 1 0 (zR h 8 1 0 (bq.getD 0 0)) = cd A (gB A 0) := v0 0 (by decide)
      by_cases c2 : cAlo (cd A f)
      · rw [if_neg (fun z => z.elim c1' (fun z => z.1 c2))]
        simp only [j_X1_canRename_j61, j_X1_canRename_j101, j_X1_canRename_j102, gd_true, ult, ubd, ukd, uwr, url, unz, uhI, uhR, uhL, upI, upR, upL, eKI, eKR, eKL, eNI, eNR, eNL, eTI, eTR, eTL, eIR, eIL, eRI, eRL, eLI, eLR, rIw, rRw, rLw, decide_true, decide_false, ne_eq, not_false_eq_true, not_true_eq_false, true_and, and_true, and_false, false_and, and_self, if_true, if_false, reduceIte, Nat.reduceEqDiff, decide_not, Bool.not_true, Bool.not_false, rq_k w, wl.1, ie, if_neg c1, ki, x4_alo ki hc, if01, if_neg (fun z => z c2 : ¬ ¬ cAlo (cd A f)), y0]
      · by_cases c3 : cAlo (cd A (gB A 0))
        · rw [if_neg (fun z => z.elim c1' (fun z => z.2 c3))]
          simp only [j_X1_canRename_j61, j_X1_canRename_j101, j_X1_canRename_j102, gd_true, ult, ubd, ukd, uwr, url, unz, uhI, uhR, uhL, upI, upR, upL, eKI, eKR, eKL, eNI, eNR, eNL, eTI, eTR, eTL, eIR, eIL, eRI, eRL, eLI, eLR, rIw, rRw, rLw, decide_true, decide_false, ne_eq, not_false_eq_true, not_true_eq_false, true_and, and_true, and_false, false_and, and_self, if_true, if_false, reduceIte, Nat.reduceEqDiff, decide_not, Bool.not_true, Bool.not_false, rq_k w, wl.1, ie, if_neg c1, ki, x4_alo ki hc, if01, if_pos c2, ll_first wl h0, f0.1, k0, x4_alo k0 hc0, if_neg (fun z => z c3 : ¬ ¬ cAlo (cd A (gB A 0))), y0]
        · rw [if_pos (Or.inr ⟨c2, c3⟩)]
          simp only [j_X1_canRename_j61, j_X1_canRename_j97, j_X1_canRename_j102, gd_true, ult, ubd, ukd, uwr, url, unz, uhI, uhR, uhL, upI, upR, upL, eKI, eKR, eKL, eNI, eNR, eNL, eTI, eTR, eTL, eIR, eIL, eRI, eRL, eLI, eLR, rIw, rRw, rLw, decide_true, decide_false, ne_eq, not_false_eq_true, not_true_eq_false, true_and, and_true, and_false, false_and, and_self, if_true, if_false, reduceIte, Nat.reduceEqDiff, decide_not, Bool.not_true, Bool.not_false, rq_k w, wl.1, ie, if_neg c1, ki, x4_alo ki hc, if01, if_pos c2, ll_first wl h0, f0.1, k0, x4_alo k0 hc0, if_pos c3, y1]
  have e38 : j_X1_canRename_j38 h p (zR h 8 1 0 q) = some (h, if ¬ (cQue (cd A f) ∧ aQueued A = n7) ∧ (aBuf A = [] ∨ (¬ cAlo (cd A f) ∧ ¬ cAlo (cd A (gB A 0)))) then 1 else 0) := by
    by_cases c1 : cQue (cd A f)
    · by_cases c2 : aQueued A = n7
      · rw [if_neg (fun z => z.1 ⟨c1, c2⟩)]
        simp only [j_X1_canRename_j38, gd_true, ult, ubd, ukd, uwr, url, unz, uhI, uhR, uhL, upI, upR, upL, eKI, eKR, eKL, eNI, eNR, eNL, eTI, eTR, eTL, eIR, eIL, eRI, eRL, eLI, eLR, rIw, rRw, rLw, decide_true, decide_false, ne_eq, not_false_eq_true, not_true_eq_false, true_and, and_true, and_false, false_and, and_self, if_true, if_false, reduceIte, Nat.reduceEqDiff, decide_not, Bool.not_true, Bool.not_false, ki, x4_que ki hc, if01, if_neg (fun z => z c1 : ¬ ¬ cQue (cd A f)), rq_k w, ql.1, qz, s7, n73, e7, if_pos c2]
      · simp only [j_X1_canRename_j38, gd_true, ult, ubd, ukd, uwr, url, unz, uhI, uhR, uhL, upI, upR, upL, eKI, eKR, eKL, eNI, eNR, eNL, eTI, eTR, eTL, eIR, eIL, eRI, eRL, eLI, eLR, rIw, rRw, rLw, decide_true, decide_false, ne_eq, not_false_eq_true, not_true_eq_false, true_and, and_true, and_false, false_and, and_self, if_true, if_false, reduceIte, Nat.reduceEqDiff, decide_not, Bool.not_true, Bool.not_false, ki, x4_que ki hc, if01, if_neg (fun z => z c1 : ¬ ¬ cQue (cd A f)), rq_k w, ql.1, qz, s7, n73, e7, if_neg c2, e61]
        by_cases c3 : aBuf A = [] ∨ (¬ cAlo (cd A f) ∧ ¬ cAlo (cd A (gB A 0)))
        · rw [if_pos c3, if_pos ⟨fun z => c2 z.2, c3⟩]
        · rw [if_neg c3, if_neg (fun z => c3 z.2)]
    · simp only [j_X1_canRename_j38, gd_true, ult, ubd, ukd, uwr, url, unz, uhI, uhR, uhL, upI, upR, upL, eKI, eKR, eKL, eNI, eNR, eNL, eTI, eTR, eTL, eIR, eIL, eRI, eRL, eLI, eLR, rIw, rRw, rLw, decide_true, decide_false, ne_eq, not_false_eq_true, not_true_eq_false, true_and, and_true, and_false, false_and, and_self, if_true, if_false, reduceIte, Nat.reduceEqDiff, decide_not, Bool.not_true, Bool.not_false, ki, x4_que ki hc, if01, if_pos c1, e61]
      by_cases c3 : aBuf A = [] ∨ (¬ cAlo (cd A f) ∧ ¬ cAlo (cd A (gB A 0)))
      · rw [if_pos c3, if_pos ⟨fun z => c1 z.1, c3⟩]
      · rw [if_neg c3, if_neg (fun z => c3 z.2)]
  have mo : aCanRen A f = (¬ bq.length = n6 ∧ ¬ (cRes (cd A f) ∧ aFree A = []) ∧ ¬ (cQue (cd A f) ∧ aQueued A = n7) ∧ (aBuf A = [] ∨ (¬ cAlo (cd A f) ∧ ¬ cAlo (cd A (gB A 0))))) := by
    unfold aCanRen
    rw [x6, x7]
  have fin : ∀ {P : Prop} [Decidable P], aCanRen A f = P → (if P then (1 : Int32) else 0) = if aCanRen A f then 1 else 0 := fun {P} _ e => by
    by_cases c : P
    · rw [if_pos c, if_pos (by rw [e]; exact c)]
    · rw [if_neg c, if_neg (by rw [e]; exact c)]
  by_cases d1 : bq.length = n6
  · rw [← fin mo, if_neg (fun z => z.1 d1)]
    simp only [j_X1_canRename, j_X1_canRename_j36, gd_true, ult, ubd, ukd, uwr, url, unz, uhI, uhR, uhL, upI, upR, upL, eKI, eKR, eKL, eNI, eNR, eNL, eTI, eTR, eTL, eIR, eIL, eRI, eRL, eLI, eLR, rIw, rRw, rLw, decide_true, decide_false, ne_eq, not_false_eq_true, not_true_eq_false, true_and, and_true, and_false, false_and, and_self, if_true, if_false, reduceIte, Nat.reduceEqDiff, decide_not, Bool.not_true, Bool.not_false, fr.1, rq_k w, wl.1, sz, s6, n63, e6, if_pos d1]
  · by_cases d2 : cRes (cd A f)
    · by_cases d3 : aFree A = []
      · rw [← fin mo, if_neg (fun z => z.2.1 ⟨d2, d3⟩)]
        simp only [j_X1_canRename, j_X1_canRename_j36, gd_true, ult, ubd, ukd, uwr, url, unz, uhI, uhR, uhL, upI, upR, upL, eKI, eKR, eKL, eNI, eNR, eNL, eTI, eTR, eTL, eIR, eIL, eRI, eRL, eLI, eLR, rIw, rRw, rLw, decide_true, decide_false, ne_eq, not_false_eq_true, not_true_eq_false, true_and, and_true, and_false, false_and, and_self, if_true, if_false, reduceIte, Nat.reduceEqDiff, decide_not, Bool.not_true, Bool.not_false, fr.1, rq_k w, wl.1, sz, s6, n63, e6, if_neg d1, ki, x4_res ki hc, if01, if_neg (fun z => z d2 : ¬ ¬ cRes (cd A f)), fa.1, fe, fn, if_pos d3, if_neg z10]
      · rw [← fin mo]
        simp only [j_X1_canRename, j_X1_canRename_j36, gd_true, ult, ubd, ukd, uwr, url, unz, uhI, uhR, uhL, upI, upR, upL, eKI, eKR, eKL, eNI, eNR, eNL, eTI, eTR, eTL, eIR, eIL, eRI, eRL, eLI, eLR, rIw, rRw, rLw, decide_true, decide_false, ne_eq, not_false_eq_true, not_true_eq_false, true_and, and_true, and_false, false_and, and_self, if_true, if_false, reduceIte, Nat.reduceEqDiff, decide_not, Bool.not_true, Bool.not_false, fr.1, rq_k w, wl.1, sz, s6, n63, e6, if_neg d1, ki, x4_res ki hc, if01, if_neg (fun z => z d2 : ¬ ¬ cRes (cd A f)), fa.1, fe, fn, if_neg d3, e38]
        by_cases c : ¬ (cQue (cd A f) ∧ aQueued A = n7) ∧ (aBuf A = [] ∨ (¬ cAlo (cd A f) ∧ ¬ cAlo (cd A (gB A 0))))
        · rw [if_pos c, if_pos ⟨d1, fun z => d3 z.2, c⟩]
        · rw [if_neg c, if_neg (fun z => c z.2.2)]
    · rw [← fin mo]
      simp only [j_X1_canRename, j_X1_canRename_j36, gd_true, ult, ubd, ukd, uwr, url, unz, uhI, uhR, uhL, upI, upR, upL, eKI, eKR, eKL, eNI, eNR, eNL, eTI, eTR, eTL, eIR, eIL, eRI, eRL, eLI, eLR, rIw, rRw, rLw, decide_true, decide_false, ne_eq, not_false_eq_true, not_true_eq_false, true_and, and_true, and_false, false_and, and_self, if_true, if_false, reduceIte, Nat.reduceEqDiff, decide_not, Bool.not_true, Bool.not_false, fr.1, rq_k w, wl.1, sz, s6, n63, e6, if_neg d1, ki, x4_res ki hc, if01, if_pos d2, e38]
      by_cases c : ¬ (cQue (cd A f) ∧ aQueued A = n7) ∧ (aBuf A = [] ∨ (¬ cAlo (cd A f) ∧ ¬ cAlo (cd A (gB A 0))))
      · rw [if_pos c, if_pos ⟨d1, fun z => d2 z.1, c⟩]
      · rw [if_neg c, if_neg (fun z => c z.2.2)]
/-! a flight that is in no list -/
def Lo (h : zH) (p ic e0 sp : Nat) (A : AS) (bq lq pl el : List Nat) (q : Nat) (f : FL) : Prop := RQ h p ic e0 sp A bq lq pl el ∧ FR h pl q f ∧ q ∉ bq ∧ q ∉ lq ∧ (0 ∈ el ∨ ∀ x ∈ el, zR h 5 1 3 x ≠ q)
theorem Lo.w {q : Nat} {f : FL} (l : Lo h p ic e0 sp A bq lq pl el q f) {k : Nat} {v : Int32} (hk : k ∈ fkl) (h1 : k ≠ 1) : Lo (sI h 8 1 k q v) p ic e0 sp A bq lq pl el q (uF f k v) := by
  obtain ⟨w, fr, n1, n2, n3⟩ := l
  have c : Cg [(8, 1)] [] [] h (sI h 8 1 k q v) := Cg.wI
  exact ⟨⟨rk_wX w.1 n1 n2 (Or.inr n3), w.2.keep c (by decide)⟩, fr_w fr hk h1, n1, n2, n3⟩
def aTail (A : AS) (f : FL) : AS := if cQue (cd A f) then wBuf A (aBuf A ++ [uF f 14 113]) else
  if cd A f = 15 then wA (wA (wBuf A (aBuf A ++ [uF (uF (uF f 14 101) 9 (aS A 26)) 19 (f.1 6)])) 9 (ix (f.1 12)) (f.1 1 + 1)) 10 (ix (f.1 12)) 1 else wBuf A (aBuf A ++ [uF (uF (uF f 14 101) 9 (aS A 26)) 19 (f.1 6)])
theorem k_tail {q : Nat} {f : FL} (l : Lo h p ic e0 sp A bq lq pl el q f) (h14 : f.1 14 = 102) (hb : bq.length < 16) (h12 : cd A f = 15 → ∃ n, n < 24 ∧ f.1 12 = nI n) : ∃ h', j_X1_rename_j100 h p q (zR h 8 1 0 q) = some h' ∧ RQ h' p ic e0 sp (aTail A f) (bq ++ [q]) lq pl el := by
  obtain ⟨w, fr, n1, n2, n3⟩ := l
  obtain ⟨ki, kv, -⟩ := fr_ins fr (rk_g10 w.1)
  have hc : zI h 4 1 0 (zR h 8 1 0 q) = cd A f := kv 0 (by decide)
  have hl := rq_len w
  obtain ⟨ns, wl⟩ := rq_buf w
  obtain ⟨h1, e1, wl1, c1⟩ := ll_addLast (x := q) wl (rq_wf w) (by decide) (by omega)
  have fr1 := fr.keep c1.cg (by decide)
  have nd := rk_nd w.1
  have gi : (bq ++ [q]).getD bq.length 0 = q := getD_app2
  have gf : (aBuf A ++ [f]).getD bq.length FL0 = f := by rw [hl]; exact getD_app2
  have w1 : RQ h1 p ic e0 sp (wBuf A (aBuf A ++ [f])) (bq ++ [q]) lq pl el := by
    refine ⟨rk_set7 w.1 (c1.sub (by simp)) ⟨_, by rw [c1.r (by decide)]; exact wl1⟩ ⟨by rw [List.length_append, List.length_append, hl]; rfl, fun i hi => ?_⟩ ?_ (by rw [List.length_append]; simp; omega) ?_, ?_⟩
    · by_cases ci : i < bq.length
      · rw [getD_app1 ci, getD_app1 (by omega)]; exact rq_fr w ci
      · have : i = bq.length := by rw [List.length_append] at hi; simp at hi; omega
        rw [this, gi, gf]; exact fr
    · rw [List.nodup_append] at nd ⊢
      refine ⟨?_, nd.2.1, fun a ha b hb => ?_⟩
      · rw [List.nodup_append]
        exact ⟨nd.1, by simp, fun a ha b hb => by rw [List.mem_singleton.mp hb]; exact fun z => n1 (z ▸ ha)⟩
      · rcases List.mem_append.mp ha with z | z
        · exact nd.2.2 a z b hb
        · rw [List.mem_singleton.mp z]; exact fun y => n2 (y ▸ hb)
    · by_cases h0 : 0 ∈ el
      · exact Or.inl h0
      · refine Or.inr fun x hx => ?_
        have g := (rk_gd w.1).resolve_left h0 x hx
        refine ⟨fun z => ?_, g.2⟩
        rcases List.mem_append.mp z with y | y
        · exact g.1 y
        · exact n3.resolve_left h0 x hx (List.mem_singleton.mp y)
    · show LQ h1 p (qsOf (bq ++ [q]) (aBuf A ++ [f]))
      rw [qsOf_app _ _ _ _ hl]
      have e0' : qsOf [q] [f] = [] := by
        show (if f.1 14 = 113 then _ else _) = _
        rw [if_neg (by rw [h14]; decide)]
        rfl
      rw [e0', List.append_nil]
      exact w.2.keep c1.cg (by decide)
  have hi1 : bq.length < (bq ++ [q]).length := by rw [List.length_append]; simp
  have gb1 : gB (wBuf A (aBuf A ++ [f])) bq.length = f := gf
  have up1 : ∀ g, upB (wBuf A (aBuf A ++ [f])) bq.length g = wBuf A (aBuf A ++ [g]) := fun g => by
    show wBuf A ((aBuf A ++ [f]).set bq.length g) = _
    rw [hl, List.set_append_right _ _ (Nat.le_refl _)]
    simp
  have ki1 : zK h1 (zR h 8 1 0 q) = (4, 1) := c1.k ki (by decide)
  have hc1 : zI h1 4 1 0 (zR h 8 1 0 q) = cd A f := by rw [c1.i (by decide)]; exact hc
  unfold aTail
  by_cases d1 : cQue (cd A f)
  · rw [if_pos d1]
    have w2 := rk_wF (v := 113) w1.1 hi1 (k := 14) (by decide) (by decide)
    rw [gi, gb1, up1] at w2
    obtain ⟨ms, ql⟩ := w1.2
    have ql2 : LL (sI h1 8 1 14 q 113) 55 (zR h1 1 1 16 p) (qsOf (bq ++ [q]) (aBuf A ++ [f])) ms := ql.keep (Ch.rf.sI (by simp) : Ch [(8, 1)] h1 _) (by decide) (by decide)
    have hq16 := qsOf_len (bq ++ [q]) (aBuf A ++ [f])
    have hq17 : (bq ++ [q]).length = bq.length + 1 := by rw [List.length_append]; rfl
    obtain ⟨h3, e3, ql3, c3⟩ := ll_addLast (x := q) ql2 (rk_w0 w2) (by decide) (by omega)
    refine ⟨h3, ?_, rk_que w2 (c3.sub (by simp)), ⟨ms ++ [zT (sI h1 8 1 14 q 113) + 1], ?_⟩⟩
    · simp only [j_X1_rename_j100, j_X1_rename_j183, gd_true, ult, ubd, ukd, uwr, url, unz, uhI, uhR, uhL, upI, upR, upL, eKI, eKR, eKL, eNI, eNR, eNL, eTI, eTR, eTL, eIR, eIL, eRI, eRL, eLI, eLR, rIw, rRw, rLw, decide_true, decide_false, ne_eq, not_false_eq_true, not_true_eq_false, true_and, and_true, and_false, false_and, and_self, if_true, if_false, reduceIte, Nat.reduceEqDiff, decide_not, Bool.not_true, Bool.not_false, rq_k w, wl.1, e1, ki1, x4_que ki1 hc1, if01, if_neg (fun z => z d1 : ¬ ¬ cQue (cd A f)), fr1.1, rq_k w1, ql.1, e3]
    · rw [c3.r (by decide)]
      have eq : qsOf (bq ++ [q]) (aBuf (wBuf A (aBuf A ++ [uF f 14 113]))) = qsOf (bq ++ [q]) (aBuf A ++ [f]) ++ [q] := by
        show qsOf (bq ++ [q]) (aBuf A ++ [uF f 14 113]) = _
        rw [qsOf_app _ _ _ _ hl, qsOf_app _ _ _ _ hl, List.append_assoc]
        congr 1
        show (if (uF f 14 113).1 14 = 113 then [q] else []) = (if f.1 14 = 113 then [q] else []) ++ [q]
        rw [uF_at, if_pos rfl, if_neg (by rw [h14]; decide)]
        rfl
      rw [eq]
      exact ql3
  · rw [if_neg d1]
    have s26 : zI h1 1 1 26 p = aS A 26 := rq_s w1 (k := 26) (by decide)
    have w2 := rq_wF (v := 101) w1 hi1 (k := 14) (by decide) (by decide) (Or.inr ⟨by decide, by rw [gb1, h14]; decide⟩)
    have w3 := rq_wF (v := aS A 26) w2 hi1 (k := 9) (by decide) (by decide) (Or.inl (by decide))
    have hi2 : bq.length < (aBuf (wBuf A (aBuf A ++ [f]))).length := by show bq.length < (aBuf A ++ [f]).length; rw [List.length_append, hl]; simp
    rw [gB_up hi2, up_up] at w3
    have w4 := rq_wF (v := f.1 6) w3 hi1 (k := 19) (by decide) (by decide) (Or.inl (by decide))
    rw [gB_up hi2, up_up, gi, gb1, up1] at w4
    have e6 := fr_i fr1 (k := 6) (by decide)
    have e81 : j_X8_end h1 q (aS A 26) = some (sI (sI h1 8 1 14 q 101) 8 1 9 q (aS A 26)) := by simp only [j_X8_end, gd_true, ult, ubd, ukd, uwr, url, unz, uhI, uhR, uhL, upI, upR, upL, eKI, eKR, eKL, eNI, eNR, eNL, eTI, eTR, eTL, eIR, eIL, eRI, eRL, eLI, eLR, rIw, rRw, rLw, decide_true, decide_false, ne_eq, not_false_eq_true, not_true_eq_false, true_and, and_true, and_false, false_and, and_self, if_true, if_false, reduceIte, Nat.reduceEqDiff, decide_not, Bool.not_true, Bool.not_false, fr1.1]
    by_cases d2 : cd A f = 15
    · rw [if_pos d2]
      obtain ⟨n, nn1, nn2⟩ := h12 d2
      have e12 := fr_i fr1 (k := 12) (by decide)
      have e1' := fr_i fr1 (k := 1) (by decide)
      obtain ⟨v1, v2, -⟩ := rq_val w1
      have w5 := rq_wA (k := 9) (j := n) (v := f.1 1 + 1) w4 (by decide)
      obtain ⟨h6, e7, w6, c6⟩ := rq_bit10 w5 nn1
      have k10 : zK h1 (zR h1 1 1 10 p) = (11, 51) := (rk_g4 w1.1).1.1
      have xn : ix (f.1 12) = n := by rw [nn2]; exact ix_nI (by omega)
      rw [xn]
      refine ⟨h6, ?_, w6⟩
      have e7' : j_J3_set (sI (sI (sI (sI h1 8 1 14 q 101) 8 1 9 q (aS A 26)) 8 1 19 q (f.1 6)) 201 19 n (zR h1 1 1 9 p) (f.1 1 + 1)) (zR h1 1 1 10 p) (nI n) = some h6 := e7
      simp only [j_X1_rename_j100, j_X1_rename_j183, gd_true, ult, ubd, ukd, uwr, url, unz, uhI, uhR, uhL, upI, upR, upL, eKI, eKR, eKL, eNI, eNR, eNL, eTI, eTR, eTL, eIR, eIL, eRI, eRL, eLI, eLR, rIw, rRw, rLw, decide_true, decide_false, ne_eq, not_false_eq_true, not_true_eq_false, true_and, and_true, and_false, false_and, and_self, if_true, if_false, reduceIte, Nat.reduceEqDiff, decide_not, Bool.not_true, Bool.not_false, rq_k w, wl.1, e1, ki1, x4_que ki1 hc1, if01, if_pos d1, fr1.1, rq_k w1, s26, e81, e6, hc1, if_pos d2, e12, e1', nn2, v1, v2, inb_nI nn1 (by decide), ix_nI (show n < 2 ^ 31 by omega), k10, e7']
    · rw [if_neg d2]
      refine ⟨_, ?_, w4⟩
      simp only [j_X1_rename_j100, j_X1_rename_j183, gd_true, ult, ubd, ukd, uwr, url, unz, uhI, uhR, uhL, upI, upR, upL, eKI, eKR, eKL, eNI, eNR, eNL, eTI, eTR, eTL, eIR, eIL, eRI, eRL, eLI, eLR, rIw, rRw, rLw, decide_true, decide_false, ne_eq, not_false_eq_true, not_true_eq_false, true_and, and_true, and_false, false_and, and_self, if_true, if_false, reduceIte, Nat.reduceEqDiff, decide_not, Bool.not_true, Bool.not_false, rq_k w, wl.1, e1, ki1, x4_que ki1 hc1, if01, if_pos d1, fr1.1, rq_k w1, s26, e81, e6, hc1, if_neg d2]
end KREN

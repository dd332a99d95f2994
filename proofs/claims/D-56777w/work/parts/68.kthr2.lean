/-! THROWING AWAY, THE LOOP -/
set_option maxRecDepth 100000
/-- flights keep their ints, but for the flag -/
def Fg (h h' : zH) : Prop := ∀ x, zI h 8 1 22 x = 1 → zI h' 8 1 22 x = 1
def I8 (h h' : zH) : Prop := (∀ k x, k ≠ 22 → zI h' 8 1 k x = zI h 8 1 k x) ∧ Fg h h' ∧ zR h' 1 1 = zR h 1 1
theorem I8.tr {h0 h1 h2 : zH} (a : I8 h0 h1) (b : I8 h1 h2) : I8 h0 h2 := ⟨fun k x hk => (b.1 k x hk).trans (a.1 k x hk), fun x hx => b.2.1 x (a.2.1 x hx), b.2.2.trans a.2.2⟩
theorem I8.ch {h h' : zH} {m : List (Nat × Nat)} (c : Ch m h h') (e : (8, 1) ∉ m ∧ (1, 1) ∉ m) : I8 h h' := ⟨fun k x _ => by rw [c.i e.1], fun x hx => by rw [c.i e.1]; exact hx, by funext k x; rw [c.r e.2]⟩
section THR2
variable {ic e0 sp p : Nat}
theorem thr_exit {h : zH} {bq0 : List Nat} {fs0 : List FL} {m : Nat} {A : AS} {lq pl el : List Nat} (w : RK h p ic e0 sp A (bq0.take m) lq pl el) (hA : aBuf A = fs0.take m) (lqh : LQ h p (qsOf bq0 fs0)) (hk : ∀ x ∈ bq0, zK h x = (8, 1)) (nd : bq0.Nodup) (hl : bq0.length ≤ 16) (fl : ∀ i, i < bq0.length → m ≤ i → zI h 8 1 22 (bq0.getD i 0) = 1) :
    ∃ h', j_X1_throwFrom_j80 h ic p = some h' ∧ RQ h' p ic e0 sp A (bq0.take m) lq pl el ∧ Ch [(13, 55), (14, 55), (16, 55)] h h' := by
  obtain ⟨ns, wl⟩ := lqh
  have hql := qsOf_len bq0 fs0
  obtain ⟨h1, it, e1, wl1, v1, c1⟩ := ll_iterator wl (rk_w0 w) (by decide) (by omega)
  have c1' : Ch [(13, 55), (14, 55), (16, 55)] h h1 := c1.sub (by simp)
  obtain ⟨h', ns', f1, f2, f3⟩ := thrQ_l (ic := ic) (h0 := h) 18 (qsOf bq0 fs0) [] h1 ns 0 c1' (by simpa using wl1) (by simpa using v1) (fun x hx => hk x (qsOf_mem _ _ _ hx)) (by omega)
  refine ⟨h', ?_, ⟨rk_que w f3, ?_⟩, f3⟩
  · simp only [j_X1_throwFrom_j80, gd_true, ult, ubd, ukd, uwr, url, unz, uhI, uhR, uhL, upI, upR, upL, eKI, eKR, eKL, eNI, eNR, eNL, eTI, eTR, eTL, eIR, eIL, eRI, eRL, eLI, eLR, rIw, rRw, rLw, decide_true, decide_false, ne_eq, not_false_eq_true, not_true_eq_false, true_and, and_true, and_false, false_and, and_self, if_true, if_false, reduceIte, Nat.reduceEqDiff, decide_not, Bool.not_true, Bool.not_false, rk_wk w, wl.1, e1]
    exact f1
  · have e := qsOf_take m bq0 fs0 (fun x => decide (zI h 8 1 22 x = 0)) nd (fun i hi => by
      by_cases c : i < m
      · have hi2 : i < (bq0.take m).length := by rw [List.length_take]; omega
        have f := (rk_fb w).2 i hi2
        have e2 : (bq0.take m).getD i 0 = bq0.getD i 0 := by simp only [List.getD, List.getElem?_take]; rw [if_pos c]
        rw [e2] at f
        have f22 := f.2.2.2.2.2.2.1
        exact decide_eq_decide.mpr ⟨fun _ => c, fun _ => f22⟩
      · exact decide_eq_decide.mpr ⟨fun z => absurd ((fl i hi (by omega)).symm.trans z) (by decide), fun z => absurd z c⟩)
    rw [List.nil_append, e] at f2
    rw [hA]
    refine ⟨ns', ?_⟩
    rw [f3.r (by decide)]
    exact f2
theorem take_dl {α : Type} {l : List α} {m : Nat} (h : m ≤ l.length) : (l.take m).dropLast = l.take (m - 1) := by
  rw [List.dropLast_eq_take, List.length_take, List.take_take]
  congr 1; omega
theorem take_getD {α : Type} {l : List α} {m i : Nat} {d : α} (h : i < m) : (l.take m).getD i d = l.getD i d := by simp only [List.getD, List.getElem?_take]; rw [if_pos h]
abbrev MT : List (Nat × Nat) := [(8, 1), (1, 1), (201, 21), (12, 52), (205, 52), (13, 54), (14, 54), (16, 54), (17, 54), (13, 55), (14, 55), (16, 55)]
theorem thr_l {bq0 lq pl el : List Nat} {fs0 : List FL} {i0 d bl : Nat} {gi : Int32} (nd : bq0.Nodup) (hl : bq0.length ≤ 16) (hfs : fs0.length = bq0.length) (hi0 : i0 < bq0.length) : ∀ (n m : Nat) (h : zH) (A : AS) (ns : List Nat) (lr : Nat), i0 < m → m ≤ bq0.length → m - i0 < n → RK h p ic e0 sp A (bq0.take m) lq pl el → aBuf A = fs0.take m → thOk A →
    LQ h p (qsOf bq0 fs0) → (∀ x ∈ bq0, zK h x = (8, 1)) → (∀ i, i < bq0.length → m ≤ i → zI h 8 1 22 (bq0.getD i 0) = 1) → zR h 1 1 15 p = bl → LL h 54 bl (bq0.take m) ns → DI h 54 d bl ns m lr →
    ∃ h', j_X1_throwFrom_l18 n h ic p (bq0.getD i0 0) gi d 1 = some h' ∧ RQ h' p ic e0 sp (aThrLoop (m - (if gi = 0 then i0 + 1 else i0)) A) (bq0.take (if gi = 0 then i0 + 1 else i0)) lq pl el ∧ Ch MT h h' ∧ I8 h h' ∧ (∀ i, i < bq0.length → (if gi = 0 then i0 + 1 else i0) ≤ i → zI h' 8 1 22 (bq0.getD i 0) = 1)
  | 0, m, h, A, ns, lr, a1, a2, a3, w, hA, th, lqh, hk, fl, hbl, wl, v => by omega
  | n + 1, m, h, A, ns, lr, a1, a2, a3, w, hA, th, lqh, hk, fl, hbl, wl, v => by
    show ∃ h', j_X1_throwFrom_b18 (j_X1_throwFrom_l18 n) h ic p (bq0.getD i0 0) gi d 1 = some h' ∧ _
    have hm : (bq0.take m).length = m := by rw [List.length_take]; omega
    have hmA : (aBuf A).length = m := by rw [hA, List.length_take]; omega
    have hn := di_hasNext v (by omega)
    rw [if_neg (by omega)] at hn
    have hmm : m = (m - 1) + 1 := by omega
    rw [hmm] at v
    obtain ⟨h1, e1, wl1, v1, c1⟩ := di_next wl v (by decide) (by omega)
    have w1 := rk_its w (c1.sub (by decide))
    have eq : (bq0.take m).getD (m - 1) 0 = bq0.getD (m - 1) 0 := take_getD (by omega)
    rw [eq] at e1
    have hk1 : ∀ x ∈ bq0, zK h1 x = (8, 1) := fun x hx => c1.k (hk x hx) (by decide)
    have fl1 : ∀ i, i < bq0.length → m ≤ i → zI h1 8 1 22 (bq0.getD i 0) = 1 := fun i hi hj => by rw [c1.i (by decide)]; exact fl i hi hj
    have lq1 : LQ h1 p (qsOf bq0 fs0) := lqh.keep c1.cg (by decide)
    have kq : zK h1 (bq0.getD (m - 1) 0) = (8, 1) := hk1 _ (getD_mem (by omega))
    obtain ⟨it, vd, -⟩ := id v
    obtain ⟨it1, vd1, -⟩ := id v1
    -- what removing and undoing the last one leaves
    have step : ∃ h2, (∃ h3, j_J32_remove h1 d = some h3 ∧ zK h3 p = (1, 1) ∧ j_X1_undo h3 p (bq0.getD (m - 1) 0) ic = some h2) ∧ RK h2 p ic e0 sp (aUndo (gB A ((aBuf A).length - 1)) (wBuf A (aBuf A).dropLast)) (bq0.take (m - 1)) lq pl el ∧ LQ h2 p (qsOf bq0 fs0) ∧ (∀ x ∈ bq0, zK h2 x = (8, 1)) ∧
        (∀ i, i < bq0.length → m - 1 ≤ i → zI h2 8 1 22 (bq0.getD i 0) = 1) ∧ zR h2 1 1 15 p = bl ∧ (∃ ns', LL h2 54 bl (bq0.take (m - 1)) ns' ∧ DI h2 54 d bl ns' (m - 1) 0) ∧ Ch MT h1 h2 ∧ I8 h1 h2 := by
      obtain ⟨h3, r1, r2, r3, r4⟩ := di_remove wl1 v1 (by decide) (by rw [hm]; omega)
      have er : (bq0.take m).eraseIdx (m - 1) = bq0.take (m - 1) := by
        have := erl (l := bq0.take m)
        rw [hm] at this
        rw [this, take_dl a2]
      rw [er] at r2
      have hb3 : zR h3 1 1 15 p = bl := by rw [r4.r (by decide), c1.r (by decide)]; exact hbl
      have fq3 : FQ h1 pl (bq0.take (m - 1)) (aBuf A).dropLast := by
        have := fq_dl (rk_fb w1)
        rw [take_dl a2] at this
        exact this
      have nd3 : (bq0.take (m - 1) ++ lq).Nodup := by
        have n1 := rk_nd w1
        rw [List.nodup_append] at n1 ⊢
        refine ⟨(List.take_sublist _ _).nodup nd, n1.2.1, fun a ha b hb => n1.2.2 a ?_ b hb⟩
        have : bq0.take (m - 1) = (bq0.take m).take (m - 1) := by rw [List.take_take]; congr 1; omega
        rw [this] at ha
        exact List.mem_of_mem_take ha
      have gd3 : GD h1 el (bq0.take (m - 1)) lq := (rk_gd w1).imp id fun rg q hq => ⟨fun z => by
        have g := (rg q hq).1
        have : bq0.take (m - 1) = (bq0.take m).take (m - 1) := by rw [List.take_take]; congr 1; omega
        rw [this] at z
        exact g (List.mem_of_mem_take z), (rg q hq).2⟩
      have w3 : RK h3 p ic e0 sp (wBuf A (aBuf A).dropLast) (bq0.take (m - 1)) lq pl el := rk_set7 w1 (r4.sub (by simp)) ⟨_, by rw [hb3]; exact r2⟩ fq3 nd3 (by rw [List.length_take]; omega) gd3
      have fr1 := (rk_fb w1).2 (m - 1) (by rw [hm]; omega)
      rw [eq] at fr1
      have fr3 : FR h3 pl (bq0.getD (m - 1) 0) ((aBuf A).getD (m - 1) FL0) := fr1.keep r4.cg (by decide)
      have efb : (aBuf A).getD (m - 1) FL0 = gB A ((aBuf A).length - 1) := by rw [hmA]; rfl
      rw [efb] at fr3
      have qn1 : bq0.getD (m - 1) 0 ∉ bq0.take (m - 1) := by
        have n2 : (bq0.take m).Nodup := (List.take_sublist _ _).nodup nd
        have := last_notin n2 (by rw [hm]; omega)
        rw [hm, eq, take_dl a2] at this
        exact this
      have qn2 : bq0.getD (m - 1) 0 ∉ lq := by
        refine nd_lr w1 ?_
        rw [← eq]
        exact getD_mem (by rw [hm]; omega)
      have hd9 : dOk (gB A ((aBuf A).length - 1)) := th.2.1 _ (by
        show (aBuf A).getD _ FL0 ∈ aBuf A
        rw [getD_lt (by omega)]
        exact List.getElem_mem _)
      have hf9 : (gB A ((aBuf A).length - 1)).1 12 ≠ -1 → (aFree (wBuf A (aBuf A).dropLast)).length ≤ 15 := fun z => by
        have t3 := th.2.2
        have := cntD_dl (l := aBuf A) (by omega)
        rw [show (aBuf A).getD ((aBuf A).length - 1) FL0 = gB A ((aBuf A).length - 1) from rfl, if_neg z] at this
        show (aFree A).length ≤ 15
        omega
      obtain ⟨h2, u1, u2, u3, u4, u5⟩ := k_undo w3 th.1 fr3 qn1 qn2 hd9 hf9
      have c2 : Ch MT h1 h2 := (r4.sub (by simp)).tr (u4.sub (by simp))
      refine ⟨h2, ⟨h3, r1, rk_wk w3, u1⟩, u2, ?_, fun x hx => c2.k (hk1 x hx) (by decide), fun i hi hj => ?_, by rw [u5]; exact hb3, ⟨_, r2.keep u4 (by decide) (by decide), r3.keep u4 (by decide) (by decide) (by decide)⟩, c2, fun k x hk => by rw [u3, rIw, if_neg (fun z => hk z.2.2.1), r4.i (by decide)], (fun x hx => by
        rw [u3, rIw]
        split
        · rfl
        · rw [r4.i (by decide)]; exact hx), u5.trans (by funext k x; rw [r4.r (by decide)])⟩
      · have l3 : LQ h3 p (qsOf bq0 fs0) := lq1.keep r4.cg (by decide)
        obtain ⟨ns', l3⟩ := l3
        refine ⟨ns', ?_⟩
        rw [u5]
        exact l3.keep u4 (by decide) (by decide)
      · rw [u3, rIw]
        by_cases e : i = m - 1
        · subst e; rw [if_pos ⟨rfl, rfl, rfl, rfl⟩]
        · split
          · rfl
          · rw [r4.i (by decide)]; exact fl1 i hi (by omega)
    have z10 : ¬ (1 : Int32) = 0 := by decide
    have zgo : ∀ h9 x, j_X1_throwFrom_l18 (n + 1) h9 ic p (bq0.getD i0 0) gi d 0 = some x ↔ j_X1_throwFrom_j80 h9 ic p = some x := fun h9 x => by
      show j_X1_throwFrom_b18 (j_X1_throwFrom_l18 n) h9 ic p (bq0.getD i0 0) gi d 0 = some x ↔ _
      unfold j_X1_throwFrom_b18
      rw [if_pos rfl]
    by_cases ef : m - 1 = i0
    · have e2 : bq0.getD (m - 1) 0 = bq0.getD i0 0 := by rw [ef]
      obtain ⟨n', rfl⟩ : ∃ n', n = n' + 1 := ⟨n - 1, by omega⟩
      have zgo' : ∀ h9 x, j_X1_throwFrom_j80 h9 ic p = some x → j_X1_throwFrom_l18 (n' + 1) h9 ic p (bq0.getD i0 0) gi d 0 = some x := fun h9 x hx => by
        show j_X1_throwFrom_b18 (j_X1_throwFrom_l18 n') h9 ic p (bq0.getD i0 0) gi d 0 = some x
        unfold j_X1_throwFrom_b18
        rw [if_pos rfl]; exact hx
      by_cases g0 : gi = 0
      · obtain ⟨h', f1, f2, f3⟩ := thr_exit (ic := ic) w1 hA lq1 hk1 nd hl fl1
        refine ⟨h', ?_, ?_, (c1.sub (by simp)).tr (f3.sub (by simp)), (I8.ch c1 (by decide)).tr (I8.ch f3 (by decide)), fun i hi hj => by rw [if_pos g0] at hj; rw [f3.i (by decide)]; exact fl1 i hi (by omega)⟩
        · simp only [j_X1_throwFrom_b18, j_X1_throwFrom_j54, j_X1_throwFrom_j77, if_neg z10, hn, e1, gd_true, ult, ubd, ukd, uwr, url, unz, uhI, uhR, uhL, upI, upR, upL, eKI, eKR, eKL, eNI, eNR, eNL, eTI, eTR, eTL, eIR, eIL, eRI, eRL, eLI, eLR, rIw, rRw, rLw, decide_true, decide_false, ne_eq, not_false_eq_true, not_true_eq_false, true_and, and_true, and_false, false_and, and_self, if_true, if_false, reduceIte, Nat.reduceEqDiff, decide_not, Bool.not_true, Bool.not_false, vd, kq, if_pos e2, if_pos g0]
          exact zgo' _ _ f1
        · rw [if_pos g0, show m - (i0 + 1) = 0 by omega, show i0 + 1 = m by omega]
          exact f2
      · obtain ⟨h2, ⟨h3, s1, s2, s3⟩, s4, s5, s6, s7, s8, s9, s10, s11⟩ := step
        have hA2 : aBuf (aUndo (gB A ((aBuf A).length - 1)) (wBuf A (aBuf A).dropLast)) = fs0.take (m - 1) := by
          rw [aUndo_buf.1]; show (aBuf A).dropLast = _; rw [hA, take_dl (by omega)]
        obtain ⟨h', f1, f2, f3⟩ := thr_exit (ic := ic) s4 hA2 s5 s6 nd hl s7
        refine ⟨h', ?_, ?_, ((c1.sub (by simp)).tr s10).tr (f3.sub (by simp)), ((I8.ch c1 (by decide)).tr s11).tr (I8.ch f3 (by decide)), fun i hi hj => by rw [if_neg g0] at hj; rw [f3.i (by decide)]; exact s7 i hi (by omega)⟩
        · simp only [j_X1_throwFrom_b18, j_X1_throwFrom_j54, j_X1_throwFrom_j65, j_X1_throwFrom_j77, if_neg z10, hn, e1, gd_true, ult, ubd, ukd, uwr, url, unz, uhI, uhR, uhL, upI, upR, upL, eKI, eKR, eKL, eNI, eNR, eNL, eTI, eTR, eTL, eIR, eIL, eRI, eRL, eLI, eLR, rIw, rRw, rLw, decide_true, decide_false, ne_eq, not_false_eq_true, not_true_eq_false, true_and, and_true, and_false, false_and, and_self, if_true, if_false, reduceIte, Nat.reduceEqDiff, decide_not, Bool.not_true, Bool.not_false, vd, vd1, kq, if_pos e2, if_neg g0, s1, s2, s3]
          exact zgo' _ _ f1
        · have e5 : m - i0 = 0 + 1 := by omega
          have e6 : m - 1 = i0 := ef
          rw [if_neg g0, e5]
          rw [e6] at f2
          exact f2
    · have e2 : ¬ bq0.getD (m - 1) 0 = bq0.getD i0 0 := nd_ne nd (by omega) hi0 ef
      obtain ⟨h2, ⟨h3, s1, s2, s3⟩, s4, s5, s6, s7, s8, ⟨ns', s9, s9'⟩, s10, s11⟩ := step
      have hA2 : aBuf (aUndo (gB A ((aBuf A).length - 1)) (wBuf A (aBuf A).dropLast)) = fs0.take (m - 1) := by
        rw [aUndo_buf.1]; show (aBuf A).dropLast = _; rw [hA, take_dl (by omega)]
      obtain ⟨h', f1, f2, f3, f4, f5⟩ := thr_l nd hl hfs hi0 n (m - 1) h2 _ ns' 0 (by omega) (by omega) (by omega) s4 hA2 (th_step th (by omega)) s5 s6 s7 s8 s9 s9'
      refine ⟨h', ?_, ?_, ((c1.sub (by simp)).tr s10).tr f3, ((I8.ch c1 (by decide)).tr s11).tr f4, f5⟩
      · simp only [j_X1_throwFrom_b18, j_X1_throwFrom_j54, j_X1_throwFrom_j65, j_X1_throwFrom_j77, if_neg z10, hn, e1, gd_true, ult, ubd, ukd, uwr, url, unz, uhI, uhR, uhL, upI, upR, upL, eKI, eKR, eKL, eNI, eNR, eNL, eTI, eTR, eTL, eIR, eIL, eRI, eRL, eLI, eLR, rIw, rRw, rLw, decide_true, decide_false, ne_eq, not_false_eq_true, not_true_eq_false, true_and, and_true, and_false, false_and, and_self, if_true, if_false, reduceIte, Nat.reduceEqDiff, decide_not, Bool.not_true, Bool.not_false, vd, vd1, kq, if_neg e2, s1, s2, s3]
        exact f1
      · have e5 : m - (if gi = 0 then i0 + 1 else i0) = (m - 1 - (if gi = 0 then i0 + 1 else i0)) + 1 := by split <;> omega
        rw [e5]
        exact f2
/-- throwFrom: from the flight i0 on (itself too, or not) -/
theorem k_throw {h : zH} {A : AS} {bq lq pl el : List Nat} {i0 : Nat} {gi : Int32} (w : RQ h p ic e0 sp A bq lq pl el) (th : thOk A) (hi : i0 < bq.length) :
    ∃ h', j_X1_throwFrom h p (bq.getD i0 0) gi ic = some h' ∧ RQ h' p ic e0 sp (aThrow (if gi = 0 then i0 + 1 else i0) A) (bq.take (if gi = 0 then i0 + 1 else i0)) [] pl el ∧ Ch ((12, 53) :: (205, 53) :: MT) h h' ∧ I8 h h' ∧ (∀ i, i < bq.length → (if gi = 0 then i0 + 1 else i0) ≤ i → zI h' 8 1 22 (bq.getD i 0) = 1) := by
  obtain ⟨a, wf⟩ := rk_g6 w.1
  obtain ⟨h1, e1, ad1, c1⟩ := ad_clear wf (by decide)
  have w1 : RQ h1 p ic e0 sp (wLine A []) bq [] pl el := rq_set6 w c1 ⟨0, by rw [c1.r (by decide)]; exact ad1⟩ ⟨rfl, fun i hi => absurd hi (Nat.not_lt_zero _)⟩ (by rw [List.append_nil]; exact nd_l w.1) (Nat.zero_le _) ((rk_gd w.1).imp id fun rg q hq => ⟨(rg q hq).1, by simp⟩)
  obtain ⟨ns, wl⟩ := rk_g7 w1.1
  have hb := rk_lb w1.1
  obtain ⟨h2, d, e2, wl2, v2, c2⟩ := ll_descending wl (rk_w0 w1.1) (by decide) (by omega)
  have w2 := rk_its w1.1 (c2.sub (by decide))
  have lq2 := w1.2.keep c2.cg (by decide)
  have hfl := rk_fb w1.1
  have tk : bq.take bq.length = bq := List.take_length
  obtain ⟨h', f1, f2, f3, f4, f5⟩ := thr_l (ic := ic) (e0 := e0) (p := p) (bq0 := bq) (lq := []) (pl := pl) (el := el) (fs0 := aBuf A) (i0 := i0) (d := d) (bl := zR h1 1 1 15 p) (gi := gi) (nd_l w.1) hb hfl.1.symm hi 18 bq.length h2 (wLine A []) ns 0 hi (Nat.le_refl _) (by omega) (by rw [tk]; exact w2) (by rw [hfl.1]; exact List.take_length.symm) th lq2
    (fun x hx => by
      obtain ⟨i, hi, e⟩ := List.mem_iff_getElem.mp hx
      have := (hfl.2 i hi).1
      rw [getD_lt hi, e] at this
      exact c2.k this (by decide)) (fun i h1 h2 => by omega) (by rw [c2.r (c := 1) (s := 1) (by decide)]) (by rw [tk]; exact wl2) v2
  refine ⟨h', ?_, ?_, ((c1.sub (by simp)).tr (c2.sub (by simp))).tr (f3.sub (by simp)), ((I8.ch c1 (by decide)).tr (I8.ch c2 (by decide))).tr f4, f5⟩
  · simp only [j_X1_throwFrom, gd_true, ult, ubd, ukd, uwr, url, unz, uhI, uhR, uhL, upI, upR, upL, eKI, eKR, eKL, eNI, eNR, eNL, eTI, eTR, eTL, eIR, eIL, eRI, eRL, eLI, eLR, rIw, rRw, rLw, decide_true, decide_false, ne_eq, not_false_eq_true, not_true_eq_false, true_and, and_true, and_false, false_and, and_self, if_true, if_false, reduceIte, Nat.reduceEqDiff, decide_not, Bool.not_true, Bool.not_false, rq_k w, wf.1, e1, rq_k w1, wl.1, e2]
    exact f1
  · have e5 : aThrow (if gi = 0 then i0 + 1 else i0) A = aThrLoop (bq.length - (if gi = 0 then i0 + 1 else i0)) (wLine A []) := by
      unfold aThrow; rw [rq_len w]
    rw [e5]; exact f2
theorem k_throwAll {h : zH} {A : AS} {bq lq pl el : List Nat} (w : RQ h p ic e0 sp A bq lq pl el) (th : thOk A) :
    ∃ h', j_X1_throwAll h p ic = some h' ∧ RQ h' p ic e0 sp (aThrowAll A) [] [] pl el ∧ Ch ((201, 29) :: (12, 53) :: (205, 53) :: MT) h h' ∧ (∀ k x, k ≠ 22 → zI h' 8 1 k x = zI h 8 1 k x) ∧ zR h' 1 1 30 p = zR h 1 1 30 p := by
  obtain ⟨ns, wl⟩ := rk_g7 w.1
  have ie := ll_isEmpty wl
  have fin : ∀ h1 B, RQ h1 p ic e0 sp B [] [] pl el → ∃ h', j_X1_throwAll_j35 h1 ic p = some h' ∧ RQ h' p ic e0 sp (wRet B []) [] [] pl el ∧ Ch [(201, 29), (1, 1)] h1 h' ∧ (∀ k x, k ≠ 22 → zI h' 8 1 k x = zI h1 8 1 k x) ∧ zR h' 1 1 30 p = zR h1 1 1 30 p := by
    intro h1 B w1
    have pN : ¬ p = zT h1 + 1 := wf_ne (rq_wf w1) (rq_k w1) (by decide)
    have c1 : Ch [(201, 29)] h1 (nw h1 201 29 0) := Ch.rf.nw (rq_wf w1) (by simp)
    have w2 : RQ (nw h1 201 29 0) p ic e0 sp B [] [] pl el := ⟨rk_nw w1.1 (Or.inl rfl), w1.2.nw (rq_wf w1) (rq_k w1)⟩
    have w3 := rq_set11 (l := []) w2 (x := zT h1 + 1) ⟨nw_Ks, nw_Ns, Nat.zero_le _, fun i hi => absurd hi (Nat.not_lt_zero _)⟩
    refine ⟨_, ?_, w3, (c1.sub (by simp)).sR (by simp), fun k x _ => by simp [rIn, eIR], by rw [rRw, if_neg (by simp), nwR pN]⟩
    simp only [j_X1_throwAll_j35, gd_true, ult, ubd, ukd, uwr, url, unz, uhI, uhR, uhL, upI, upR, upL, eKI, eKR, eKL, eNI, eNR, eNL, eTI, eTR, eTL, eIR, eIL, eRI, eRL, eLI, eLR, rIw, rRw, rLw, decide_true, decide_false, ne_eq, not_false_eq_true, not_true_eq_false, true_and, and_true, and_false, false_and, and_self, if_true, if_false, reduceIte, Nat.reduceEqDiff, decide_not, Bool.not_true, Bool.not_false, zK_nw, pN, rq_k w1]
  by_cases hb : bq = []
  · subst hb
    obtain ⟨a, wf⟩ := rk_g6 w.1
    obtain ⟨h1, e1, ad1, c1⟩ := ad_clear wf (by decide)
    have w1 : RQ h1 p ic e0 sp (wLine A []) [] [] pl el := rq_set6 w c1 ⟨0, by rw [c1.r (by decide)]; exact ad1⟩ ⟨rfl, fun i hi => absurd hi (Nat.not_lt_zero _)⟩ (by simp) (Nat.zero_le _) ((rk_gd w.1).imp id fun rg q hq => ⟨(rg q hq).1, by simp⟩)
    have hl := rq_len w
    have e5 : aThrow 0 A = wLine A [] := by unfold aThrow; rw [← hl]; rfl
    obtain ⟨h', f1, f2, f3, f4, f5⟩ := fin h1 _ w1
    refine ⟨h', ?_, by unfold aThrowAll; rw [e5]; exact f2, (c1.sub (by simp)).tr (f3.sub (by simp)), fun k x hk => by rw [f4 k x hk, c1.i (by decide)], by rw [f5, c1.r (by decide)]⟩
    simp only [j_X1_throwAll, gd_true, ult, ubd, ukd, uwr, url, unz, uhI, uhR, uhL, upI, upR, upL, eKI, eKR, eKL, eNI, eNR, eNL, eTI, eTR, eTL, eIR, eIL, eRI, eRL, eLI, eLR, rIw, rRw, rLw, decide_true, decide_false, ne_eq, not_false_eq_true, not_true_eq_false, true_and, and_true, and_false, false_and, and_self, if_true, if_false, reduceIte, Nat.reduceEqDiff, decide_not, Bool.not_true, Bool.not_false, rq_k w, wl.1, ie, wf.1, e1, (by decide : ¬ (1 : Int32) = 0)]
    exact f1
  · have h0 : 0 < bq.length := List.length_pos_iff.mpr hb
    obtain ⟨h1, e1, w1, c1, i1, -⟩ := k_throw (i0 := 0) (gi := 1) w th h0
    rw [if_neg (by decide), List.take_zero] at w1
    obtain ⟨h', f1, f2, f3, f4, f5⟩ := fin h1 _ w1
    refine ⟨h', ?_, by unfold aThrowAll; exact f2, (c1.sub (by simp)).tr (f3.sub (by simp)), fun k x hk => by rw [f4 k x hk, i1.1 k x hk], by rw [f5, i1.2.2]⟩
    simp only [j_X1_throwAll, gd_true, ult, ubd, ukd, uwr, url, unz, uhI, uhR, uhL, upI, upR, upL, eKI, eKR, eKL, eNI, eNR, eNL, eTI, eTR, eTL, eIR, eIL, eRI, eRL, eLI, eLR, rIw, rRw, rLw, decide_true, decide_false, ne_eq, not_false_eq_true, not_true_eq_false, true_and, and_true, and_false, false_and, and_self, if_true, if_false, reduceIte, Nat.reduceEqDiff, decide_not, Bool.not_true, Bool.not_false, rq_k w, wl.1, ie, if_neg hb, ll_first wl h0, (rq_fr w h0).1, e1]
    exact f1
end THR2

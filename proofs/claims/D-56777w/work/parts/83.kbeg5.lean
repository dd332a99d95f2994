/-! BEGINNINGS: what is kept, the loop -/
set_option maxRecDepth 100000
theorem fil_set {P : FL → Bool} : ∀ (l : List FL) (i : Nat) (g : FL), (P g = true → P (l.getD i FL0) = true) → ((l.set i g).filter P).length ≤ (l.filter P).length
  | [], i, g, h => by simp
  | f :: t, 0, g, h => by
    have h : P g = true → P f = true := h
    show ((g :: t).filter P).length ≤ ((f :: t).filter P).length
    rw [List.filter_cons, List.filter_cons]
    by_cases c : P g = true
    · rw [if_pos c, if_pos (h c)]; simp
    · rw [if_neg c]
      split
      · simp
      · exact Nat.le_refl _
  | f :: t, i + 1, g, h => by
    have ih := fil_set t i g h
    show ((f :: t.set i g).filter P).length ≤ ((f :: t).filter P).length
    rw [List.filter_cons, List.filter_cons]
    split
    · simpa using ih
    · exact ih
section KBEG5
variable {N : Nat} {A : AS}
theorem KI.up (w : KI N A) {i : Nat} {g : FL} (hg : bfOk A g) (e12 : g.1 12 = (gB A i).1 12) (h113 : g.1 14 = 113 → (gB A i).1 14 = 113) : KI N (upB A i g) := by
  refine ⟨w.p, fun f hf => ?_, ?_, w.m, w.w, ?_, ?_, w.h, w.i, w.k, w.c, w.l⟩
  · rcases List.mem_or_eq_of_mem_set (show f ∈ (aBuf A).set i g from hf) with z | z
    · exact w.b f z
    · rw [z]; exact hg
  · show (aFree A).length + cntD ((aBuf A).set i g) ≤ 16
    rw [cntD_set _ _ e12]; exact w.n
  · obtain ⟨n, a, b, c, d⟩ := w.z
    exact ⟨n, a, b, c, by rw [up_len]; exact d⟩
  · obtain ⟨n, a, b, c, d⟩ := w.q
    refine ⟨n, a, b, c, Nat.le_trans (fil_set _ _ _ ?_) d⟩
    intro z
    exact decide_eq_true (h113 (of_decide_eq_true z))
theorem bf_w {f : FL} (b : bfOk A f) {k : Nat} {v : Int32} (hk : k = 8 ∨ k = 15 ∨ k = 18 ∨ k = 20) : bfOk A (uF f k v) := by
  have e : ∀ j, j ≠ k → (uF f k v).1 j = f.1 j := fun j hj => uF_ne hj
  have ec : cd A (uF f k v) = cd A f := by show iK A 0 (uF f k v) = iK A 0 f; unfold iK; rw [e 1 (by omega)]
  refine ⟨b.1.w (by omega) (by omega), ?_, ?_, ?_⟩
  · unfold stB; rw [e 14 (by omega)]; exact b.2.1
  · rw [e 12 (by omega), e 13 (by omega)]; exact b.2.2.1
  · unfold stT; rw [ec, e 14 (by omega), e 16 (by omega), e 17 (by omega)]; exact b.2.2.2
theorem bf_17 {f : FL} (b : bfOk A f) (h : f.1 14 ≠ 101) {v : Int32} : bfOk A (uF f 17 v) := by
  have e : ∀ j, j ≠ 17 → (uF f 17 v).1 j = f.1 j := fun j hj => uF_ne hj
  refine ⟨b.1.w (by omega) (by omega), ?_, ?_, ?_⟩
  · unfold stB; rw [e 14 (by omega)]; exact b.2.1
  · rw [e 12 (by omega), e 13 (by omega)]; exact b.2.2.1
  · unfold stT; rw [e 14 (by omega)]; exact fun _ z => absurd z h
theorem bf_14 {f : FL} (b : bfOk A f) {v : Int32} (h : v = 120 ∨ v = 109) : bfOk A (uF f 14 v) := by
  have e : ∀ j, j ≠ 14 → (uF f 14 v).1 j = f.1 j := fun j hj => uF_ne hj
  have v98 : v ≠ 98 := by rcases h with h | h <;> (rw [h]; decide)
  have v101 : v ≠ 101 := by rcases h with h | h <;> (rw [h]; decide)
  refine ⟨b.1.w (by omega) (fun _ z => absurd z v98), ?_, ?_, ?_⟩
  · unfold stB; rw [uF_at]; rcases h with h | h <;> simp [h]
  · rw [e 12 (by omega), e 13 (by omega)]; exact b.2.2.1
  · unfold stT; rw [uF_at]; exact fun _ z => absurd z v101
theorem bf_21 {f : FL} (b : bfOk A f) {v : Int32} (h : 0 ≤ v) : bfOk A (uF f 21 v) := by
  have e : ∀ j, j ≠ 21 → (uF f 21 v).1 j = f.1 j := fun j hj => uF_ne hj
  have ec : cd A (uF f 21 v) = cd A f := by show iK A 0 (uF f 21 v) = iK A 0 f; unfold iK; rw [e 1 (by omega)]
  obtain ⟨⟨b1, b2, b3, b4, b5, b6, b7⟩, c1, c2, c3⟩ := b
  refine ⟨⟨?_, ?_, ?_, ?_, ?_, ?_, ?_⟩, ?_, ?_, ?_⟩
  · unfold dOk; rw [e 12 (by omega)]; exact b1
  · rw [e 10 (by omega)]; exact b2
  · rw [e 11 (by omega)]; exact b3
  · rw [e 3 (by omega)]; exact b4
  · rw [uF_at]; exact Or.inr h
  · rw [ec, e 12 (by omega)]; exact b6
  · rw [e 12 (by omega), e 14 (by omega)]; exact b7
  · unfold stB; rw [e 14 (by omega)]; exact c1
  · rw [e 12 (by omega), e 13 (by omega)]; exact c2
  · unfold stT; rw [ec, e 14 (by omega), e 16 (by omega), e 17 (by omega)]; exact c3
theorem bf_beg {f : FL} (b : bfOk A f) {c d : Int32} : bfOk A (fBeg f c d) := bf_w (bf_w (bf_14 b (Or.inl rfl)) (by omega)) (by omega)
theorem bf_wait {f : FL} (b : bfOk A f) {l c : Int32} : bfOk A (fWait f l c) := bf_w (bf_w (bf_14 b (Or.inr rfl)) (by omega)) (by omega)
theorem beg_o {f : FL} {c d : Int32} : (fBeg f c d).1 12 = f.1 12 ∧ (fBeg f c d).1 14 = 120 := by
  unfold fBeg
  exact ⟨by rw [uF_ne (by decide), uF_ne (by decide), uF_ne (by decide)], by rw [uF_ne (by decide), uF_ne (by decide), uF_at]⟩
theorem wait_o {f : FL} {c d : Int32} : (fWait f c d).1 12 = f.1 12 ∧ (fWait f c d).1 14 = 109 := by
  unfold fWait
  exact ⟨by rw [uF_ne (by decide), uF_ne (by decide), uF_ne (by decide)], by rw [uF_ne (by decide), uF_ne (by decide), uF_at]⟩
theorem bf_fAd {f : FL} (b : bfOk A f) (h : f.1 14 = 113) : bfOk A (fAd A f) := by
  unfold fAd
  split
  · exact bf_17 b (by rw [h]; decide)
  · exact b
/-- what a beginning leaves -/
def BgS (N i : Nat) (A : AS) (q : AS × Bool) : Prop := KI (N + 1) q.1 ∧ aS q.1 26 = aS A 26 ∧ ∃ g, aBuf q.1 = (aBuf A).set i g ∧ (q.2 = true → g.1 14 ≠ 113) ∧ (q.2 = false → g.1 14 = 113)
theorem bgs_self (w : KI N A) {i : Nat} (hi : i < (aBuf A).length) (h : (gB A i).1 14 = 113) : BgS N i A (A, false) := ⟨w.mono (by omega), rfl, gB A i, by
  have := up_self (A := A) hi
  have e : aBuf (upB A i (gB A i)) = aBuf A := by rw [this]
  exact e.symm, fun z => absurd z Bool.false_ne_true, fun _ => h⟩
theorem bgs_read (w : KI N A) {i : Nat} (hi : i < (aBuf A).length) (h : (gB A i).1 14 = 113) (h17 : isAd ((gB A i).1 17)) : BgS N i A (aRead i A) := by
  have b := w.b _ (gB_mem hi)
  unfold aRead
  dsimp only
  split
  · exact ⟨(w.sc1 (k := 36) (by omega) rfl).up (bf_beg b) beg_o.1 (fun z => absurd (beg_o.2.symm.trans z) (by decide)), aS_ne (A := A) (j := 26) (k := 36) (v := aS A 36 + 1) (by decide), _, rfl, fun _ z => absurd (beg_o.2.symm.trans z) (by decide), fun z => absurd z.symm Bool.false_ne_true⟩
  · split
    · exact ⟨((w.mono (by omega)).up (bf_wait b) wait_o.1 (fun z => absurd (wait_o.2.symm.trans z) (by decide))), rfl, _, rfl, fun _ z => absurd (wait_o.2.symm.trans z) (by decide), fun z => absurd z.symm Bool.false_ne_true⟩
    · split
      · exact bgs_self w hi h
      · rename_i hlen
        obtain ⟨m, hm, em⟩ := ad_nI h17
        have w1 : KI (N + 1) (wAsk (wS A 37 (aS A 37 + 1)) (aAsk A ++ [((gB A i).1 17 / 4, aS A 26 + aA A 23 (ix ((gB A i).1 17 / 4)))])) := (w.sc1 (k := 37) (by omega) rfl).as (fun q hq => by
          rcases List.mem_append.mp hq with z | z
          · exact w.k.1 q z
          · rw [List.mem_singleton.mp z]
            exact ⟨m / 4, by omega, by show (gB A i).1 17 / 4 = nI (m / 4); simp only [em]; exact div4 m hm⟩) (by have := w.k.2; rw [List.length_append]; simp; omega)
        exact ⟨w1.up (bf_wait b) wait_o.1 (fun z => absurd (wait_o.2.symm.trans z) (by decide)), aS_ne (A := A) (j := 26) (k := 37) (v := aS A 37 + 1) (by decide), _, rfl, fun _ z => absurd (wait_o.2.symm.trans z) (by decide), fun z => absurd z.symm Bool.false_ne_true⟩
theorem src_in {l s : FL} (h : aSrc A l = some s) : s ∈ aBuf A := by
  unfold aSrc at h
  have := List.mem_of_getLast? h
  exact (List.mem_filter.mp (List.mem_filter.mp this).1).1
theorem bgs_load (w : KI N A) {i : Nat} (hi : i < (aBuf A).length) (h : (gB A i).1 14 = 113) (h17 : isAd ((gB A i).1 17)) : BgS N i A (aBeginLoad i A) := by
  have b := w.b _ (gB_mem hi)
  rw [aBL_eq]
  split
  · exact bgs_self w hi h
  · split
    · rename_i s hs
      split
      · exact bgs_self w hi h
      · have b1 : bfOk A (uF (gB A i) 21 (s.1 3)) := bf_21 b (w.b _ (src_in hs)).1.2.2.2.1
        exact ⟨(((w.mono (by omega)).sc (k := 35) (by decide)).up (bf_beg (bf_w b1 (by omega))) (by rw [beg_o.1, uF_ne (by decide), uF_ne (by decide)]; rfl) (fun z => absurd (beg_o.2.symm.trans z) (by decide))), aS_ne (A := A) (j := 26) (k := 35) (v := aS A 35 + 1) (by decide), _, rfl, fun _ z => absurd (beg_o.2.symm.trans z) (by decide), fun z => absurd z.symm Bool.false_ne_true⟩
    · exact bgs_read w hi h h17
theorem bgs_begin (w : KI N A) {i : Nat} (hi : i < (aBuf A).length) (h : (gB A i).1 14 = 113) : BgS N i A (aBegin i A) := by
  have b := w.b _ (gB_mem hi)
  have b1 := bf_fAd b h
  have h1 : (fAd A (gB A i)).1 14 = 113 := (fAd_f 14 (by decide)).trans h
  have w1 : KI N (upB A i (fAd A (gB A i))) := w.up b1 (fAd_f 12 (by decide)) (fun _ => h)
  have gu : gB (upB A i (fAd A (gB A i))) i = fAd A (gB A i) := gB_up hi
  have fold : ∀ q, BgS N i (upB A i (fAd A (gB A i))) q → BgS N i A q := fun q z => by
    obtain ⟨z1, z2, g, z3, z4⟩ := z
    refine ⟨z1, z2, g, ?_, z4⟩
    rw [z3]
    show ((aBuf A).set i _).set i g = (aBuf A).set i g
    rw [List.set_set]
  rw [aBegin_eq]
  split
  · rename_i c
    exact fold _ (bgs_load w1 (by rw [up_len]; exact hi) (by rw [gu]; exact h1) (by rw [gu]; exact c.2))
  · refine fold _ ⟨(w1.mono (by omega)).up (A := upB A i (fAd A (gB A i))) (bf_beg b1) (by rw [gu]; exact beg_o.1) (fun z => absurd (beg_o.2.symm.trans z) (by decide)), rfl, _, rfl, fun _ z => absurd (beg_o.2.symm.trans z) (by decide), fun z => absurd z.symm Bool.false_ne_true⟩
end KBEG5
section KBEG6
variable {ic e0 sp p : Nat} {bq lq pl el : List Nat}
theorem ba_l {it ql r : Nat} {M : Nat} : ∀ (d i m N : Nat) (h : zH) (A : AS) (u : UN) (ns : List Nat) (lr : Nat), bq.length - i = d → i ≤ bq.length → RK h p ic e0 sp A bq lq pl el → KI N A → N + d ≤ M → M < 1000000 → UR h r u → zR h 1 1 16 p = ql → LL h 55 ql (qsOf bq (aBuf A)) ns → IT h 55 it ql ns (qpos bq (aBuf A) i) lr → (qsOf bq (aBuf A)).length - qpos bq (aBuf A) i < m →
    ∃ h', j_X1_beginAll_l20 m h p r it = some h' ∧ RQ h' p ic e0 sp (aBegLoop d i u A) bq lq pl el ∧ KI M (aBegLoop d i u A)
  | d, i, 0, N, h, A, u, ns, lr, hd, hi, w, k, hN, hM, ur, hq, wl, v, hm => absurd hm (by omega)
  | 0, i, m + 1, N, h, A, u, ns, lr, hd, hi, w, k, hN, hM, ur, hq, wl, v, hm => by
    have hl := rk_len w
    have hp : qpos bq (aBuf A) i = (qsOf bq (aBuf A)).length := by
      unfold qpos
      rw [List.take_of_length_le (by omega), List.take_of_length_le (by omega)]
    have hn := it_hasNext wl v (by omega)
    rw [if_neg (by omega)] at hn
    refine ⟨h, ?_, ⟨w, ns, by rw [hq]; exact wl⟩, k.mono (by omega)⟩
    show j_X1_beginAll_b20 (j_X1_beginAll_l20 m) h p r it = some h
    simp only [j_X1_beginAll_b20, hn, gd_true, ult, ubd, ukd, uwr, url, unz, uhI, uhR, uhL, upI, upR, upL, eKI, eKR, eKL, eNI, eNR, eNL, eTI, eTR, eTL, eIR, eIL, eRI, eRL, eLI, eLR, rIw, rRw, rLw, decide_true, decide_false, ne_eq, not_false_eq_true, not_true_eq_false, true_and, and_true, and_false, false_and, and_self, if_true, if_false, reduceIte, Nat.reduceEqDiff, decide_not, Bool.not_true, Bool.not_false, v.1]
  | d + 1, i, m + 1, N, h, A, u, ns, lr, hd, hi, w, k, hN, hM, ur, hq, wl, v, hm => by
    have hl := rk_len w
    have hi' : i < bq.length := by omega
    have hps := q_pos (fs := aBuf A) hl hi'
    have z10 : ¬ (1 : Int32) = 0 := by decide
    have ue : aBegLoop (d + 1) i u A = if (gB A i).1 14 = 113 ∧ uHas u (cd A (gB A i)) ∧ aHasOps A (gB A i) then aBegLoop d (i + 1) (if (aBegin i A).2 then uUse u (cd A (gB A i)) else u) (aBegin i A).1 else aBegLoop d (i + 1) u A := rfl
    have gf : (aBuf A).getD i FL0 = gB A i := rfl
    rw [gf] at hps
    by_cases c : (gB A i).1 14 = 113
    · obtain ⟨qa1, qa2⟩ := q_at hl hi' c
      rw [if_pos c] at hps
      have hn := it_hasNext wl v (Nat.le_of_lt qa1)
      rw [if_pos qa1] at hn
      obtain ⟨h1, e1, wl1, v1, c1⟩ := it_next wl v (by decide) qa1
      rw [qa2] at e1
      have w1 : RK h1 p ic e0 sp A bq lq pl el := rk_its w (c1.sub (by simp))
      have ur1 := ur.keep c1 (by decide)
      have hq1 : zR h1 1 1 16 p = ql := by rw [c1.r (by decide)]; exact hq
      have rq1 : RQ h1 p ic e0 sp A bq lq pl el := ⟨w1, ns, by rw [hq1]; exact wl1⟩
      have fr := rk_fr w1 hi'
      obtain ⟨ki, kv, -⟩ := fr_ins fr (rk_g10 w1)
      have hcd : zI h1 4 1 0 (zR h1 8 1 0 (bq.getD i 0)) = cd A (gB A i) := kv 0 (by decide)
      have bf := k.b _ (gB_mem (A := A) (i := i) (by omega))
      have hs := ur_has (c := cd A (gB A i)) ur1
      have ho := k_hasOps rq1 fr bf.1.2.1 bf.1.2.2.1
      have skip : ¬ (uHas u (cd A (gB A i)) ∧ aHasOps A (gB A i)) → j_X1_beginAll_b20 (j_X1_beginAll_l20 m) h p r it = j_X1_beginAll_l20 m h1 p r it → ∃ h', j_X1_beginAll_l20 (m + 1) h p r it = some h' ∧ RQ h' p ic e0 sp (aBegLoop (d + 1) i u A) bq lq pl el ∧ KI M (aBegLoop (d + 1) i u A) := fun hn he => by
        obtain ⟨h', f1, f2, f3⟩ := ba_l d (i + 1) m N h1 A u ns _ (by omega) (by omega) w1 k (by omega) hM ur1 hq1 wl1 (by rw [hps]; exact v1) (by omega)
        refine ⟨h', ?_, ?_, ?_⟩
        · show j_X1_beginAll_b20 (j_X1_beginAll_l20 m) h p r it = some h'
          rw [he]; exact f1
        · rw [ue, if_neg (fun z => hn z.2)]; exact f2
        · rw [ue, if_neg (fun z => hn z.2)]; exact f3
      by_cases d1 : uHas u (cd A (gB A i))
      · by_cases d2 : aHasOps A (gB A i)
        · rw [if_pos d1] at hs
          rw [if_pos d2] at ho
          have hc := k.c
          obtain ⟨h2, e2, w2, c2⟩ := k_begin w1 k.bo hi' k.k.2 (by obtain ⟨a, b, c, y1, y2, y3, y4, y5, y6⟩ := hc; exact ⟨b, c, y2, y3, by omega, by omega⟩)
          obtain ⟨bk, b26, g, bb, bt, bn⟩ := bgs_begin k (i := i) (by omega) c
          have ha1 : bq.length - (i + 1) = d := by omega
          have ha2 : i + 1 ≤ bq.length := by omega
          have ha3 : N + 1 + d ≤ M := by omega
          have ha4 : (qsOf bq (aBuf A)).length - (qpos bq (aBuf A) i + 1) < m := by omega
          have ha5 : (qsOf bq (aBuf A)).length - 1 - qpos bq (aBuf A) i < m := by omega
          have ha6 : i < (aBuf A).length := by omega
          have ur2 := ur1.keep c2.1 (by decide)
          have hq2 : zR h2 1 1 16 p = ql := by rw [c2.2]; exact hq1
          have wl2 := wl1.keep c2.1 (by decide) (by decide)
          have v2 := v1.keep c2.1 (by decide) (by decide)
          have ho' : aHasOps A (gB A i) ∧ uHas u (cd A (gB A i)) := ⟨d2, d1⟩
          have hps2 := q_pos (fs := (aBuf A).set i g) (i := i) (by rw [List.length_set]; exact hl) hi'
          rw [getD_set ha6, if_pos rfl, q_set] at hps2
          rw [ue, if_pos ⟨c, d1, d2⟩]
          clear ue
          generalize aBegin i A = Q at e2 w2 bk b26 bb bt bn ⊢
          obtain ⟨A2, o⟩ := Q
          dsimp only at e2 w2 bk b26 bb bt bn ⊢
          cases o with
          | false =>
            rw [if_neg Bool.false_ne_true] at e2
            have g113 := bn rfl
            rw [if_pos g113] at hps2
            have qe : qsOf bq (aBuf A2) = qsOf bq (aBuf A) := by rw [bb]; exact qsOf_set _ _ _ _ ⟨fun _ => c, fun _ => g113⟩
            obtain ⟨h', f1, f2, f3⟩ := ba_l d (i + 1) m (N + 1) h2 A2 u ns _ ha1 ha2 w2 bk ha3 hM ur2 hq2 (by rw [qe]; exact wl2) (by rw [bb, hps2]; exact v2) (by rw [qe, bb, hps2]; exact ha4)
            refine ⟨h', ?_, ?_, ?_⟩
            · show j_X1_beginAll_b20 (j_X1_beginAll_l20 m) h p r it = some h'
              simp only [j_X1_beginAll_b20, j_X1_beginAll_j85, hn, e1, gd_true, ult, ubd, ukd, uwr, url, unz, uhI, uhR, uhL, upI, upR, upL, eKI, eKR, eKL, eNI, eNR, eNL, eTI, eTR, eTL, eIR, eIL, eRI, eRL, eLI, eLR, rIw, rRw, rLw, decide_true, decide_false, ne_eq, not_false_eq_true, not_true_eq_false, true_and, and_true, and_false, false_and, and_self, if_true, if_false, reduceIte, Nat.reduceEqDiff, decide_not, Bool.not_true, Bool.not_false, v.1, fr.1, ki, hcd, ur1.1, hs, if_neg z10, rk_wk w1, ho, e2]
              exact f1
            · rw [if_neg Bool.false_ne_true]; exact f2
            · rw [if_neg Bool.false_ne_true]; exact f3
          | true =>
            rw [if_pos rfl] at e2
            have g113 := bt rfl
            rw [if_neg g113, Nat.add_zero] at hps2
            obtain ⟨h3, e3, ur3, c3⟩ := ur_use (c := cd A (gB A i)) ur2 d1
            have w3 : RK h3 p ic e0 sp A2 bq lq pl el := rk_its w2 (c3.sub (by simp))
            have wl3 := wl2.keep c3 (by decide) (by decide)
            have v3 := v2.keep c3 (by decide) (by decide)
            obtain ⟨h4, e4, wl4, v4, c4⟩ := it_remove wl3 v3 (by decide) qa1 (Or.inl rfl)
            have w4 : RK h4 p ic e0 sp A2 bq lq pl el := rk_que w3 c4
            have qe : qsOf bq (aBuf A2) = (qsOf bq (aBuf A)).eraseIdx (qpos bq (aBuf A) i) := by rw [bb]; exact q_er hl hi' c g113
            have ql4 : ((qsOf bq (aBuf A)).eraseIdx (qpos bq (aBuf A) i)).length = (qsOf bq (aBuf A)).length - 1 := List.length_eraseIdx_of_lt qa1
            obtain ⟨h', f1, f2, f3⟩ := ba_l (ql := ql) d (i + 1) m (N + 1) h4 A2 (uUse u (cd A (gB A i))) _ _ ha1 ha2 w4 bk ha3 hM (ur3.keep c4 (by decide)) (by rw [c4.r (by decide), c3.r (by decide)]; exact hq2) (by rw [qe]; exact wl4) (by rw [bb, hps2]; exact v4) (by rw [qe, bb, hps2, ql4]; exact ha5)
            refine ⟨h', ?_, ?_, ?_⟩
            · show j_X1_beginAll_b20 (j_X1_beginAll_l20 m) h p r it = some h'
              simp only [j_X1_beginAll_b20, j_X1_beginAll_j85, hn, e1, gd_true, ult, ubd, ukd, uwr, url, unz, uhI, uhR, uhL, upI, upR, upL, eKI, eKR, eKL, eNI, eNR, eNL, eTI, eTR, eTL, eIR, eIL, eRI, eRL, eLI, eLR, rIw, rRw, rLw, decide_true, decide_false, ne_eq, not_false_eq_true, not_true_eq_false, true_and, and_true, and_false, false_and, and_self, if_true, if_false, reduceIte, Nat.reduceEqDiff, decide_not, Bool.not_true, Bool.not_false, v.1, fr.1, ki, hcd, ur1.1, hs, if_neg z10, rk_wk w1, ho, e2, ur2.1, e3, v3.1, e4]
              exact f1
            · rw [if_pos rfl]; exact f2
            · rw [if_pos rfl]; exact f3
        · rw [if_pos d1] at hs
          rw [if_neg d2] at ho
          refine skip (fun z => d2 z.2) ?_
          simp only [j_X1_beginAll_b20, j_X1_beginAll_j85, hn, e1, gd_true, ult, ubd, ukd, uwr, url, unz, uhI, uhR, uhL, upI, upR, upL, eKI, eKR, eKL, eNI, eNR, eNL, eTI, eTR, eTL, eIR, eIL, eRI, eRL, eLI, eLR, rIw, rRw, rLw, decide_true, decide_false, ne_eq, not_false_eq_true, not_true_eq_false, true_and, and_true, and_false, false_and, and_self, if_true, if_false, reduceIte, Nat.reduceEqDiff, decide_not, Bool.not_true, Bool.not_false, v.1, fr.1, ki, hcd, ur1.1, hs, if_neg z10, rk_wk w1, ho]
      · rw [if_neg d1] at hs
        refine skip (fun z => d1 z.1) ?_
        simp only [j_X1_beginAll_b20, j_X1_beginAll_j85, hn, e1, gd_true, ult, ubd, ukd, uwr, url, unz, uhI, uhR, uhL, upI, upR, upL, eKI, eKR, eKL, eNI, eNR, eNL, eTI, eTR, eTL, eIR, eIL, eRI, eRL, eLI, eLR, rIw, rRw, rLw, decide_true, decide_false, ne_eq, not_false_eq_true, not_true_eq_false, true_and, and_true, and_false, false_and, and_self, if_true, if_false, reduceIte, Nat.reduceEqDiff, decide_not, Bool.not_true, Bool.not_false, v.1, fr.1, ki, hcd, ur1.1, hs, if_neg z10]
    · rw [if_neg c] at hps
      obtain ⟨h', f1, f2, f3⟩ := ba_l d (i + 1) (m + 1) N h A u ns lr (by omega) (by omega) w k (by omega) hM ur hq wl (by rw [hps]; exact v) (by rw [hps]; exact hm)
      refine ⟨h', f1, ?_, ?_⟩
      · rw [ue, if_neg (fun z => c z.1)]; exact f2
      · rw [ue, if_neg (fun z => c z.1)]; exact f3
  termination_by d i m => d
end KBEG6

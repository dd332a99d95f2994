/-! THROWING AWAY -/
set_option maxRecDepth 100000
/-- what the program's instructions are -/
def InvP (A : AS) : Prop := ∀ i, i < ix (aS A 0) → (∀ j, 1 ≤ j → j ≤ 3 → ∃ n, n < 8 ∧ aA A (50 + j) i = nI n) ∧ (∃ n, n < 22 ∧ aA A 50 i = nI n) ∧ (inR (aA A 50 i) 12 15 → isAd (aA A 54 i))
def dOk (f : FL) : Prop := f.1 12 = -1 ∨ ∃ n, n < 24 ∧ f.1 12 = nI n
def cntD : List FL → Nat
  | [] => 0
  | f :: t => (if f.1 12 = -1 then 0 else 1) + cntD t
theorem cntD_app : ∀ (a b : List FL), cntD (a ++ b) = cntD a + cntD b
  | [], b => by simp [cntD]
  | f :: t, b => by
    show (if f.1 12 = -1 then 0 else 1) + cntD (t ++ b) = _
    rw [cntD_app t b]
    show _ = (if f.1 12 = -1 then 0 else 1) + cntD t + cntD b
    omega
section THR
variable {ic e0 sp p : Nat}
theorem ins_d {h : zH} {A : AS} {bq lq pl el : List Nat} {q : Nat} {f : FL} (w : RK h p ic e0 sp A bq lq pl el) (ip : InvP A) (fr : FR h pl q f) : ∀ j, 1 ≤ j → j ≤ 3 → ∃ n, n < 8 ∧ zI h 4 1 j (zR h 8 1 0 q) = nI n ∧ iK A j f = nI n := by
  obtain ⟨k, ki, kl, kn⟩ := fr_ins fr (rk_g10 w)
  intro j h1 h2
  have h0 := (rk_g10 w).2.2.1
  have hb := (rk_g10 w).2.1
  have : ix (aS A 0) = pl.length := by rw [h0]; exact ix_nI (by omega)
  obtain ⟨n, n1, n2⟩ := (ip (ix (f.1 1)) (by rw [this]; exact kl)).1 j h1 h2
  exact ⟨n, n1, by rw [ki j (by omega)]; exact n2, n2⟩
theorem k_undo {h : zH} {A : AS} {bq lq pl el : List Nat} {q : Nat} {f : FL} (w : RK h p ic e0 sp A bq lq pl el) (ip : InvP A) (fr : FR h pl q f) (hb : q ∉ bq) (hl : q ∉ lq) (hd : dOk f) (hf : f.1 12 ≠ -1 → (aFree A).length ≤ 15) :
    ∃ h', j_X1_undo h p q ic = some h' ∧ RK h' p ic e0 sp (aUndo f A) bq lq pl el ∧ zI h' 8 1 = zI (sI h 8 1 22 q 1) 8 1 ∧ Ch [(8, 1), (1, 1), (201, 21), (12, 52), (205, 52)] h h' ∧ zR h' 1 1 = zR h 1 1 := by
  have w1 : RK (sI h 8 1 22 q 1) p ic e0 sp A bq lq pl el := rk_wX w hb hl (Or.inl rfl)
  have k1 := rk_wk w
  have s34 := (rk_g1 w).1 34 (by decide)
  have w2 : RK (sI (sI h 8 1 22 q 1) 1 1 34 p (aS A 34 + 1)) p ic e0 sp (wS A 34 (aS A 34 + 1)) bq lq pl el := rk_wS w1 (by decide)
  have e12 := fr_i fr (k := 12) (by decide)
  have e13 := fr_i fr (k := 13) (by decide)
  have c0 : Ch [(8, 1), (1, 1), (201, 21), (12, 52), (205, 52)] h (sI (sI h 8 1 22 q 1) 1 1 34 p (aS A 34 + 1)) := (Ch.rf.sI (by simp)).sI (by simp)
  by_cases d : f.1 12 = -1
  · refine ⟨_, ?_, ?_, ?_, c0, rfl⟩
    · simp only [j_X1_undo, j_X1_undo_j53, gd_true, ult, ubd, ukd, uwr, url, unz, uhI, uhR, uhL, upI, upR, upL, eKI, eKR, eKL, eNI, eNR, eNL, eTI, eTR, eTL, eIR, eIL, eRI, eRL, eLI, eLR, rIw, rRw, rLw, decide_true, decide_false, ne_eq, not_false_eq_true, not_true_eq_false, true_and, and_true, and_false, false_and, and_self, if_true, if_false, reduceIte, Nat.reduceEqDiff, decide_not, Bool.not_true, Bool.not_false, fr.1, k1, s34, e12, d]
    · unfold aUndo; rw [if_pos d]; exact w2
    · funext a b; rw [rIw, if_neg (by simp)]
  · obtain ⟨n, n1, n2⟩ := hd.resolve_left d
    obtain ⟨j, j1, j2, j3⟩ := ins_d w ip fr 1 (by decide) (by decide)
    have kI := (fr_ins fr (rk_g10 w)).1
    have g11 := rk_g2 w 11 (by decide)
    have w3 : RK (sI (sI (sI h 8 1 22 q 1) 1 1 34 p (aS A 34 + 1)) 201 21 j (zR h 1 1 11 p) (f.1 13)) p ic e0 sp _ bq lq pl el := rk_wA w2 (k := 11) (j := j) (v := f.1 13) (by decide)
    have hic := (rk_g5 w3).1
    have kx := (unbox_ok hic (n := n) (by omega)).1
    have ox := box_ok hic (n := n) (by omega)
    obtain ⟨w5a, w5b, a, w5⟩ := rk_g5 w3
    have g13 : zK h (zR h 1 1 13 p) = (12, 52) := by obtain ⟨-, -, a, x⟩ := rk_g5 w; exact x.1
    obtain ⟨h', f1, f2, f3⟩ := ad_addLast w5 (x := bx (sI (sI (sI h 8 1 22 q 1) 1 1 34 p (aS A 34 + 1)) 201 21 j (zR h 1 1 11 p) (f.1 13)) ic n) (by decide) (wf_n0 (rk_w0 w3) kx (by decide)) (by rw [List.length_map]; have := hf d; show (aFree A).length < 16; omega) (oka_of kx (by decide))
    have hbx : bx h' ic = bx (sI (sI (sI h 8 1 22 q 1) 1 1 34 p (aS A 34 + 1)) 201 21 j (zR h 1 1 11 p) (f.1 13)) ic := bx_keep f3.cg (by decide)
    have g5' : G5 h' p ic (aFree A ++ [f.1 12]) := by
      refine ⟨hic.keep f3 (by decide) (by decide), fun v hv => ?_, a, ?_⟩
      · rcases List.mem_append.mp hv with z | z
        · exact w5b v z
        · rw [List.mem_singleton.mp z, n2, ix_nI (by omega)]; exact ⟨n1, rfl⟩
      · rw [hbx, List.map_append, f3.r (by decide)]
        have e9 : [f.1 12].map (fun v => bx (sI (sI (sI h 8 1 22 q 1) 1 1 34 p (aS A 34 + 1)) 201 21 j (zR h 1 1 11 p) (f.1 13)) ic (ix v)) = [bx (sI (sI (sI h 8 1 22 q 1) 1 1 34 p (aS A 34 + 1)) 201 21 j (zR h 1 1 11 p) (f.1 13)) ic n] := by
          rw [List.map_singleton, n2, ix_nI (by omega)]
        rw [e9]; exact f2
    have w4 := rk_set5 w3 f3 g5'
    refine ⟨h', ?_, ?_, ?_, ((c0.sI (by simp)).tr (f3.sub (by simp))), ?_⟩
    · simp only [j_X1_undo, j_X1_undo_j53, gd_true, ult, ubd, ukd, uwr, url, unz, uhI, uhR, uhL, upI, upR, upL, eKI, eKR, eKL, eNI, eNR, eNL, eTI, eTR, eTL, eIR, eIL, eRI, eRL, eLI, eLR, rIw, rRw, rLw, decide_true, decide_false, ne_eq, not_false_eq_true, not_true_eq_false, true_and, and_true, and_false, false_and, and_self, if_true, if_false, reduceIte, Nat.reduceEqDiff, decide_not, Bool.not_true, Bool.not_false, fr.1, k1, s34, e12, e13, d, kI, j2, g11.1, g11.2.1, inb_nI (show j < aln 11 from j1) (by decide), ix_nI (show j < 2 ^ 31 by omega), g13]
      rw [n2, ox]
      simp only [gd_true, ult, ubd, ukd, uwr, url, unz, uhI, uhR, uhL, upI, upR, upL, eKI, eKR, eKL, eNI, eNR, eNL, eTI, eTR, eTL, eIR, eIL, eRI, eRL, eLI, eLR, rIw, rRw, rLw, decide_true, decide_false, ne_eq, not_false_eq_true, not_true_eq_false, true_and, and_true, and_false, false_and, and_self, if_true, if_false, reduceIte, Nat.reduceEqDiff, decide_not, Bool.not_true, Bool.not_false, g13]
      have f1' : j_J4_addLast (sI (sI (sI h 8 1 22 q 1) 1 1 34 p (aS A 34 + 1)) 201 21 j (zR h 1 1 11 p) (f.1 13)) (zR h 1 1 13 p) (bx (sI (sI (sI h 8 1 22 q 1) 1 1 34 p (aS A 34 + 1)) 201 21 j (zR h 1 1 11 p) (f.1 13)) ic n) = some h' := f1
      rw [f1']
      simp only [gd_true, ult, ubd, ukd, uwr, url, unz, uhI, uhR, uhL, upI, upR, upL, eKI, eKR, eKL, eNI, eNR, eNL, eTI, eTR, eTL, eIR, eIL, eRI, eRL, eLI, eLR, rIw, rRw, rLw, decide_true, decide_false, ne_eq, not_false_eq_true, not_true_eq_false, true_and, and_true, and_false, false_and, and_self, if_true, if_false, reduceIte, Nat.reduceEqDiff, decide_not, Bool.not_true, Bool.not_false]
    · unfold aUndo
      rw [if_neg d, j3, ix_nI (by omega)]
      exact w4
    · rw [f3.i (by decide)]
      funext a b; simp only [gd_true, ult, ubd, ukd, uwr, url, unz, uhI, uhR, uhL, upI, upR, upL, eKI, eKR, eKL, eNI, eNR, eNL, eTI, eTR, eTL, eIR, eIL, eRI, eRL, eLI, eLR, rIw, rRw, rLw, decide_true, decide_false, ne_eq, not_false_eq_true, not_true_eq_false, true_and, and_true, and_false, false_and, and_self, if_true, if_false, reduceIte, Nat.reduceEqDiff, decide_not, Bool.not_true, Bool.not_false]
    · rw [f3.r (by decide)]
      funext a b; simp only [gd_true, ult, ubd, ukd, uwr, url, unz, uhI, uhR, uhL, upI, upR, upL, eKI, eKR, eKL, eNI, eNR, eNL, eTI, eTR, eTL, eIR, eIL, eRI, eRL, eLI, eLR, rIw, rRw, rLw, decide_true, decide_false, ne_eq, not_false_eq_true, not_true_eq_false, true_and, and_true, and_false, false_and, and_self, if_true, if_false, reduceIte, Nat.reduceEqDiff, decide_not, Bool.not_true, Bool.not_false]
theorem erl {α : Type} {l : List α} : l.eraseIdx (l.length - 1) = l.dropLast := by
  rw [List.eraseIdx_eq_take_drop_succ, List.dropLast_eq_take]
  cases l with
  | nil => rfl
  | cons a t =>
    have : (a :: t).drop ((a :: t).length - 1 + 1) = [] := List.drop_eq_nil_of_le (by simp)
    rw [this, List.append_nil]
theorem getD_dl {α : Type} {l : List α} {i : Nat} {d : α} (h : i < l.length - 1) : l.dropLast.getD i d = l.getD i d := by
  rw [List.dropLast_eq_take]
  simp only [List.getD, List.getElem?_take]
  rw [if_pos h]
theorem mem_dl {α : Type} {l : List α} {x : α} (h : x ∈ l.dropLast) : x ∈ l := by rw [List.dropLast_eq_take] at h; exact List.mem_of_mem_take h
theorem fq_dl {h : zH} {pl qs : List Nat} {fs : List FL} (w : FQ h pl qs fs) : FQ h pl qs.dropLast fs.dropLast := by
  refine ⟨by rw [List.length_dropLast, List.length_dropLast, w.1], fun i hi => ?_⟩
  rw [List.length_dropLast] at hi
  rw [getD_dl hi, getD_dl (by rw [← w.1]; exact hi)]
  exact w.2 i (by omega)
theorem last_notin {l : List Nat} (n : l.Nodup) (h0 : 0 < l.length) : l.getD (l.length - 1) 0 ∉ l.dropLast := fun z => by
  obtain ⟨i, hi, e⟩ := List.mem_iff_getElem.mp z
  rw [List.length_dropLast] at hi
  have : l.getD i 0 = l.getD (l.length - 1) 0 := by
    rw [← getD_dl hi, getD_lt (by rw [List.length_dropLast]; exact hi), e]
  have := nd_inj n (by omega) (by omega) this
  omega
theorem cntD_dl {l : List FL} (h0 : 0 < l.length) : cntD l = cntD l.dropLast + (if (l.getD (l.length - 1) FL0).1 12 = -1 then 0 else 1) := by
  have hne : l ≠ [] := fun e => by rw [e] at h0; exact absurd h0 (by decide)
  have e := List.dropLast_concat_getLast hne
  have e2 : l.getLast hne = l.getD (l.length - 1) FL0 := by rw [List.getLast_eq_getElem, getD_lt]
  rw [e2] at e
  conv => lhs; rw [← e]
  rw [cntD_app]
  rfl
/-- all that the loop needs of the state -/
def thOk (A : AS) : Prop := InvP A ∧ (∀ f ∈ aBuf A, dOk f) ∧ (aFree A).length + cntD (aBuf A) ≤ 16
theorem aUndo_buf {f : FL} {A : AS} : aBuf (aUndo f A) = aBuf A ∧ aS (aUndo f A) 0 = aS A 0 ∧ (∀ j, aA (aUndo f A) (50 + j) = aA A (50 + j)) ∧ (aFree (aUndo f A)).length = (aFree A).length + (if f.1 12 = -1 then 0 else 1) := by
  unfold aUndo
  split
  · exact ⟨rfl, (show pu (aS A) 34 (aS A 34 + 1) 0 = aS A 0 from pu_ne (by decide)), fun _ => rfl, by simp [wS, aFree]⟩
  · refine ⟨rfl, (show pu (aS A) 34 (aS A 34 + 1) 0 = aS A 0 from pu_ne (by decide)), fun j => (show u2 (aA A) 11 (ix (iK A 1 f)) (f.1 13) (50 + j) = aA A (50 + j) from u2_k (by omega)), ?_⟩
    show (aFree A ++ [f.1 12]).length = _
    simp
theorem th_step {A : AS} (t : thOk A) (h0 : 0 < (aBuf A).length) : thOk (aUndo (gB A ((aBuf A).length - 1)) (wBuf A (aBuf A).dropLast)) := by
  obtain ⟨t1, t2, t3⟩ := t
  obtain ⟨b1, b2, b3, b4⟩ := aUndo_buf (f := gB A ((aBuf A).length - 1)) (A := wBuf A (aBuf A).dropLast)
  refine ⟨fun i hi => ?_, fun f hf => ?_, ?_⟩
  · rw [b2] at hi
    have := t1 i hi
    rw [show aA (aUndo (gB A ((aBuf A).length - 1)) (wBuf A (aBuf A).dropLast)) 50 = aA A 50 from b3 0, show aA (aUndo (gB A ((aBuf A).length - 1)) (wBuf A (aBuf A).dropLast)) 54 = aA A 54 from b3 4]
    exact ⟨fun j h1 h2 => by rw [b3]; exact this.1 j h1 h2, this.2⟩
  · rw [b1] at hf; exact t2 f (mem_dl hf)
  · rw [b1, b4]
    have := cntD_dl h0
    show (aFree A).length + _ + cntD (aBuf A).dropLast ≤ 16
    show (aFree A).length + (if ((aBuf A).getD ((aBuf A).length - 1) FL0).1 12 = -1 then 0 else 1) + cntD (aBuf A).dropLast ≤ 16
    omega
/-- who is left of the queue -/
theorem qsOf_take : ∀ (m : Nat) (qs : List Nat) (fs : List FL) (P : Nat → Bool), qs.Nodup → (∀ i, i < qs.length → P (qs.getD i 0) = decide (i < m)) → (qsOf qs fs).filter P = qsOf (qs.take m) (fs.take m)
  | m, [], fs, P, n, h => by cases m <;> rfl
  | m, q :: qs, [], P, n, h => by cases m <;> rfl
  | 0, q :: qs, f :: fs, P, n, h => by
    rw [List.take_zero, List.take_zero]
    show List.filter P _ = []
    rw [List.filter_eq_nil_iff]
    intro x hx
    have hx := qsOf_mem _ _ _ hx
    obtain ⟨i, hi, e⟩ := List.mem_iff_getElem.mp hx
    have := h i hi
    rw [getD_lt hi, e] at this
    rw [this]; simp
  | m + 1, q :: qs, f :: fs, P, n, h => by
    have ih := qsOf_take m qs fs P (List.nodup_cons.mp n).2 (fun i hi => by
      have := h (i + 1) (by simp; omega)
      simpa using this)
    have h0 : P q = true := by
      have := h 0 (by simp)
      simpa using this
    show List.filter P (if f.1 14 = 113 then q :: qsOf qs fs else qsOf qs fs) = if f.1 14 = 113 then q :: qsOf (qs.take m) (fs.take m) else qsOf (qs.take m) (fs.take m)
    split
    · rw [List.filter_cons, if_pos h0, ih]
    · exact ih
theorem eraseIdx_app {α : Type} {a b : List α} {x : α} : (a ++ x :: b).eraseIdx a.length = a ++ b := by
  rw [List.eraseIdx_append_of_length_le (Nat.le_refl _), Nat.sub_self]
  rfl
/-- the queue gives up those that are thrown -/
theorem thrQ_l {h0 : zH} {it l : Nat} : ∀ (n : Nat) (rest kept : List Nat) (h : zH) (ns : List Nat) (lr : Nat), Ch [(13, 55), (14, 55), (16, 55)] h0 h → LL h 55 l (kept ++ rest) ns → IT h 55 it l ns kept.length lr → (∀ x ∈ rest, zK h0 x = (8, 1)) → rest.length < n →
    ∃ h' ns', j_X1_throwFrom_l89 n h ic it = some h' ∧ LL h' 55 l (kept ++ rest.filter fun x => decide (zI h0 8 1 22 x = 0)) ns' ∧ Ch [(13, 55), (14, 55), (16, 55)] h0 h'
  | 0, rest, kept, h, ns, lr, c0, wl, v, hk, h2 => by omega
  | n + 1, [], kept, h, ns, lr, c0, wl, v, hk, h2 => by
    show ∃ h' ns', j_X1_throwFrom_b89 (j_X1_throwFrom_l89 n) h ic it = some h' ∧ _
    have hn := it_hasNext wl v (by simp)
    rw [if_neg (by simp)] at hn
    refine ⟨h, ns, ?_, by simpa using wl, c0⟩
    simp only [j_X1_throwFrom_b89, hn, gd_true, ult, ubd, ukd, uwr, url, unz, uhI, uhR, uhL, upI, upR, upL, eKI, eKR, eKL, eNI, eNR, eNL, eTI, eTR, eTL, eIR, eIL, eRI, eRL, eLI, eLR, rIw, rRw, rLw, decide_true, decide_false, ne_eq, not_false_eq_true, not_true_eq_false, true_and, and_true, and_false, false_and, and_self, if_true, if_false, reduceIte, Nat.reduceEqDiff, decide_not, Bool.not_true, Bool.not_false, v.1]
  | n + 1, x :: rest, kept, h, ns, lr, c0, wl, v, hk, h2 => by
    show ∃ h' ns', j_X1_throwFrom_b89 (j_X1_throwFrom_l89 n) h ic it = some h' ∧ _
    have hn := it_hasNext wl v (by simp)
    rw [if_pos (by simp)] at hn
    obtain ⟨h1, e1, wl1, v1, c1⟩ := it_next wl v (by decide) (by simp)
    have ex : (kept ++ x :: rest).getD kept.length 0 = x := by simp [List.getD]
    rw [ex] at e1
    have c1' : Ch [(13, 55), (14, 55), (16, 55)] h0 h1 := c0.tr (c1.sub (by simp))
    have kx : zK h1 x = (8, 1) := c1'.k (hk x List.mem_cons_self) (by decide)
    have fx : zI h1 8 1 22 x = zI h0 8 1 22 x := by rw [c1'.i (by decide)]
    by_cases d : zI h0 8 1 22 x = 0
    · have ha : kept ++ x :: rest = (kept ++ [x]) ++ rest := by simp
      rw [ha] at wl1
      obtain ⟨h', ns', f1, f2, f3⟩ := thrQ_l n rest (kept ++ [x]) h1 ns _ c1' wl1 (by simpa using v1) (fun y hy => hk y (List.mem_cons_of_mem _ hy)) (by simp at h2; omega)
      refine ⟨h', ns', ?_, ?_, f3⟩
      · simp only [j_X1_throwFrom_b89, hn, e1, gd_true, ult, ubd, ukd, uwr, url, unz, uhI, uhR, uhL, upI, upR, upL, eKI, eKR, eKL, eNI, eNR, eNL, eTI, eTR, eTL, eIR, eIL, eRI, eRL, eLI, eLR, rIw, rRw, rLw, decide_true, decide_false, ne_eq, not_false_eq_true, not_true_eq_false, true_and, and_true, and_false, false_and, and_self, if_true, if_false, reduceIte, Nat.reduceEqDiff, decide_not, Bool.not_true, Bool.not_false, v.1, kx, fx, d, (by decide : ¬ (1 : Int32) = 0)]
        exact f1
      · rw [List.filter_cons, if_pos (by simp [d])]
        simpa using f2
    · obtain ⟨h2', e2, wl2, v2, c2⟩ := it_remove wl1 v1 (by decide) (by simp) (Or.inl rfl)
      rw [eraseIdx_app] at wl2
      obtain ⟨h', ns', f1, f2, f3⟩ := thrQ_l n rest kept h2' (ns.eraseIdx kept.length) _ (c1'.tr c2) wl2 v2 (fun y hy => hk y (List.mem_cons_of_mem _ hy)) (by simp at h2; omega)
      refine ⟨h', ns', ?_, ?_, f3⟩
      · simp only [j_X1_throwFrom_b89, hn, e1, gd_true, ult, ubd, ukd, uwr, url, unz, uhI, uhR, uhL, upI, upR, upL, eKI, eKR, eKL, eNI, eNR, eNL, eTI, eTR, eTL, eIR, eIL, eRI, eRL, eLI, eLR, rIw, rRw, rLw, decide_true, decide_false, ne_eq, not_false_eq_true, not_true_eq_false, true_and, and_true, and_false, false_and, and_self, if_true, if_false, reduceIte, Nat.reduceEqDiff, decide_not, Bool.not_true, Bool.not_false, v.1, v1.1, kx, fx, d, e2, (by decide : ¬ (1 : Int32) = 0)]
        exact f1
      · rw [List.filter_cons, if_neg (by simp [d])]
        exact f2
end THR

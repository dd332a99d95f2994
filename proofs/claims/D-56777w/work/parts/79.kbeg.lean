/-! BEGINNINGS: the small -/
set_option maxRecDepth 100000
theorem bex_take {α : Type} {l : List α} {i : Nat} {d : α} {P : α → Prop} (h : i < l.length) : (∃ f ∈ l.take (i + 1), P f) = ((∃ f ∈ l.take i, P f) ∨ P (l.getD i d)) := by
  rw [take_succ_getD (d := d) h]
  apply propext
  constructor
  · rintro ⟨f, hf, hp⟩
    rcases List.mem_append.mp hf with z | z
    · exact Or.inl ⟨f, z, hp⟩
    · rw [List.mem_singleton.mp z] at hp; exact Or.inr hp
  · rintro (⟨f, hf, hp⟩ | hp)
    · exact ⟨f, List.mem_append_left _ hf, hp⟩
    · exact ⟨_, List.mem_append_right _ (List.mem_singleton.mpr rfl), hp⟩
theorem ite_o {P Q : Prop} [Decidable P] [Decidable Q] (e : P = Q) : (if P then (1 : Int32) else 0) = if Q then 1 else 0 := by
  by_cases c : P
  · rw [if_pos c, if_pos (e ▸ c)]
  · rw [if_neg c, if_neg (fun z => c (e ▸ z))]
/-- a flag says whether -/
def fl01 (P : Prop) (x : Int32) : Prop := (P → x = 1) ∧ (¬ P → x = 0)
theorem fl1 {P : Prop} (h : P) : fl01 P 1 := ⟨fun _ => rfl, fun z => absurd h z⟩
theorem fl0 {P : Prop} (h : ¬ P) : fl01 P 0 := ⟨fun z => absurd z h, fun _ => rfl⟩
theorem fl01.ite {P : Prop} [Decidable P] {x : Int32} (h : fl01 P x) : x = if P then 1 else 0 := by
  by_cases c : P
  · rw [if_pos c]; exact h.1 c
  · rw [if_neg c]; exact h.2 c
section KBEG
variable {ic e0 sp p : Nat} {A : AS} {bq lq pl el : List Nat}
theorem dv_l {it bl : Nat} {ns : List Nat} : ∀ (n i : Nat) (h : zH) (x : Int32) (lr : Nat), RQ h p ic e0 sp A bq lq pl el → LL h 54 bl bq ns → IT h 54 it bl ns i lr → i ≤ bq.length → bq.length < n + i → fl01 (∃ f ∈ (aBuf A).take i, f.1 14 = 120 ∧ cd A f = 5) x →
    ∃ h', j_X1_isDividing_l10 n h x it = some (h', if aBusy A then 1 else 0) ∧ Ch [(16, 54)] h h'
  | 0, i, h, x, lr, w, wl, v, h1, h2, hx => by omega
  | n + 1, i, h, x, lr, w, wl, v, h1, h2, hx => by
    have hn := it_hasNext wl v h1
    have hl := rq_len w
    have z10 : ¬ (1 : Int32) = 0 := by decide
    show ∃ h', j_X1_isDividing_b10 (j_X1_isDividing_l10 n) h x it = some (h', _) ∧ _
    by_cases c : i < bq.length
    · rw [if_pos c] at hn
      obtain ⟨h', e1, wl1, v1, c1⟩ := it_next wl v (by decide) c
      have w1 := rq_its' w c1 (by decide)
      have fr := rq_fr w1 c
      obtain ⟨ki, kv⟩ := rq_ins w1 c
      have hc : zI h' 4 1 0 (zR h' 8 1 0 (bq.getD i 0)) = cd A (gB A i) := kv 0 (by decide)
      have e14 := fr_i fr (k := 14) (by decide)
      have eb := bex_take (l := aBuf A) (i := i) (d := FL0) (P := fun f => f.1 14 = 120 ∧ cd A f = 5) (by omega)
      have go : ∀ y, fl01 (∃ f ∈ (aBuf A).take (i + 1), f.1 14 = 120 ∧ cd A f = 5) y → ∃ h2, j_X1_isDividing_l10 n h' y it = some (h2, if aBusy A then 1 else 0) ∧ Ch [(16, 54)] h h2 := fun y hy => by
        obtain ⟨h2, f1, f2⟩ := dv_l n (i + 1) h' y _ w1 wl1 v1 (by omega) (by omega) hy
        exact ⟨h2, f1, c1.tr f2⟩
      by_cases d : ∃ f ∈ (aBuf A).take i, f.1 14 = 120 ∧ cd A f = 5
      · have hx := hx.1 d
        obtain ⟨h2, f1, f2⟩ := go 1 (fl1 (by rw [eb]; exact Or.inl d))
        refine ⟨h2, ?_, f2⟩
        simp only [j_X1_isDividing_b10, j_X1_isDividing_j53, j_X1_isDividing_j58, hn, e1, gd_true, ult, ubd, ukd, uwr, url, unz, uhI, uhR, uhL, upI, upR, upL, eKI, eKR, eKL, eNI, eNR, eNL, eTI, eTR, eTL, eIR, eIL, eRI, eRL, eLI, eLR, rIw, rRw, rLw, decide_true, decide_false, ne_eq, not_false_eq_true, not_true_eq_false, true_and, and_true, and_false, false_and, and_self, if_true, if_false, reduceIte, Nat.reduceEqDiff, decide_not, Bool.not_true, Bool.not_false, v.1, fr.1, hx, if_neg z10]
        exact f1
      · have hx := hx.2 d
        by_cases d2 : (gB A i).1 14 = 120
        · by_cases d3 : cd A (gB A i) = 5
          · obtain ⟨h2, f1, f2⟩ := go 1 (fl1 (by rw [eb]; exact Or.inr ⟨d2, d3⟩))
            refine ⟨h2, ?_, f2⟩
            simp only [j_X1_isDividing_b10, j_X1_isDividing_j53, j_X1_isDividing_j57, j_X1_isDividing_j58, hn, e1, gd_true, ult, ubd, ukd, uwr, url, unz, uhI, uhR, uhL, upI, upR, upL, eKI, eKR, eKL, eNI, eNR, eNL, eTI, eTR, eTL, eIR, eIL, eRI, eRL, eLI, eLR, rIw, rRw, rLw, decide_true, decide_false, ne_eq, not_false_eq_true, not_true_eq_false, true_and, and_true, and_false, false_and, and_self, if_true, if_false, reduceIte, Nat.reduceEqDiff, decide_not, Bool.not_true, Bool.not_false, v.1, fr.1, hx, if_neg z10, e14, if_pos d2, ki, hc, if_pos d3]
            exact f1
          · obtain ⟨h2, f1, f2⟩ := go 0 (fl0 (by rw [eb]; exact fun z => z.elim d (fun z => d3 z.2)))
            refine ⟨h2, ?_, f2⟩
            simp only [j_X1_isDividing_b10, j_X1_isDividing_j53, j_X1_isDividing_j57, j_X1_isDividing_j58, hn, e1, gd_true, ult, ubd, ukd, uwr, url, unz, uhI, uhR, uhL, upI, upR, upL, eKI, eKR, eKL, eNI, eNR, eNL, eTI, eTR, eTL, eIR, eIL, eRI, eRL, eLI, eLR, rIw, rRw, rLw, decide_true, decide_false, ne_eq, not_false_eq_true, not_true_eq_false, true_and, and_true, and_false, false_and, and_self, if_true, if_false, reduceIte, Nat.reduceEqDiff, decide_not, Bool.not_true, Bool.not_false, v.1, fr.1, hx, if_neg z10, e14, if_pos d2, ki, hc, if_neg d3]
            exact f1
        · obtain ⟨h2, f1, f2⟩ := go 0 (fl0 (by rw [eb]; exact fun z => z.elim d (fun z => d2 z.1)))
          refine ⟨h2, ?_, f2⟩
          simp only [j_X1_isDividing_b10, j_X1_isDividing_j53, j_X1_isDividing_j57, j_X1_isDividing_j58, hn, e1, gd_true, ult, ubd, ukd, uwr, url, unz, uhI, uhR, uhL, upI, upR, upL, eKI, eKR, eKL, eNI, eNR, eNL, eTI, eTR, eTL, eIR, eIL, eRI, eRL, eLI, eLR, rIw, rRw, rLw, decide_true, decide_false, ne_eq, not_false_eq_true, not_true_eq_false, true_and, and_true, and_false, false_and, and_self, if_true, if_false, reduceIte, Nat.reduceEqDiff, decide_not, Bool.not_true, Bool.not_false, v.1, fr.1, hx, if_neg z10, e14, if_neg d2]
          exact f1
    · rw [if_neg c] at hn
      have hi : i = (aBuf A).length := by omega
      have hx' : x = if aBusy A then 1 else 0 := by rw [hi, List.take_length] at hx; exact hx.ite
      refine ⟨h, ?_, Ch.rf⟩
      have hb : b01 (if aBusy A then 1 else 0) = true := b01_if
      simp only [j_X1_isDividing_b10, hn, gd_true, ult, ubd, ukd, uwr, url, unz, uhI, uhR, uhL, upI, upR, upL, eKI, eKR, eKL, eNI, eNR, eNL, eTI, eTR, eTL, eIR, eIL, eRI, eRL, eLI, eLR, rIw, rRw, rLw, decide_true, decide_false, ne_eq, not_false_eq_true, not_true_eq_false, true_and, and_true, and_false, false_and, and_self, if_true, if_false, reduceIte, Nat.reduceEqDiff, decide_not, Bool.not_true, Bool.not_false, v.1, hx', hb]
theorem k_dividing {h : zH} (w : RQ h p ic e0 sp A bq lq pl el) : ∃ h', j_X1_isDividing h p = some (h', if aBusy A then 1 else 0) ∧ Ch [(16, 54)] h h' := by
  obtain ⟨ns, wl⟩ := rq_buf w
  have hb := rk_lb w.1
  obtain ⟨h1, it, e1, wl1, v1, c1⟩ := ll_iterator wl (rq_wf w) (by decide) (by omega)
  have w1 := rq_its' w c1 (by decide)
  obtain ⟨h2, f1, f2⟩ := dv_l (ns := ns) (it := it) 18 0 h1 0 0 w1 wl1 v1 (by omega) (by omega) (fl0 (by rw [List.take_zero]; simp))
  refine ⟨h2, ?_, c1.tr f2⟩
  simp only [j_X1_isDividing, gd_true, ult, ubd, ukd, uwr, url, unz, uhI, uhR, uhL, upI, upR, upL, eKI, eKR, eKL, eNI, eNR, eNL, eTI, eTR, eTL, eIR, eIL, eRI, eRL, eLI, eLR, rIw, rRw, rLw, decide_true, decide_false, ne_eq, not_false_eq_true, not_true_eq_false, true_and, and_true, and_false, false_and, and_self, if_true, if_false, reduceIte, Nat.reduceEqDiff, decide_not, Bool.not_true, Bool.not_false, rq_k w, wl.1, e1, f1]
/-! whether a line is asked for -/
theorem af_l {it al : Nat} {ql ns : List Nat} {L : List (Int32 × Int32)} {x1 : Int32} (hq : ql.length = L.length) : ∀ (n i : Nat) (h : zH) (x : Int32) (lr : Nat), (∀ j, j < ql.length → zK h (ql.getD j 0) = (7, 1) ∧ zI h 7 1 0 (ql.getD j 0) = (L.getD j (0, 0)).1) → LL h 57 al ql ns → IT h 57 it al ns i lr → i ≤ ql.length → ql.length < n + i → fl01 (∃ f ∈ L.take i, f.1 = x1) x →
    ∃ h', j_X1_isAskedFor_l10 n h x1 x it = some (h', if ∃ f ∈ L, f.1 = x1 then 1 else 0) ∧ Ch [(16, 57)] h h'
  | 0, i, h, x, lr, w, wl, v, h1, h2, hx => by omega
  | n + 1, i, h, x, lr, w, wl, v, h1, h2, hx => by
    have hn := it_hasNext wl v h1
    have z10 : ¬ (1 : Int32) = 0 := by decide
    show ∃ h', j_X1_isAskedFor_b10 (j_X1_isAskedFor_l10 n) h x1 x it = some (h', _) ∧ _
    by_cases c : i < ql.length
    · rw [if_pos c] at hn
      obtain ⟨h', e1, wl1, v1, c1⟩ := it_next wl v (by decide) c
      have w1 : ∀ j, j < ql.length → zK h' (ql.getD j 0) = (7, 1) ∧ zI h' 7 1 0 (ql.getD j 0) = (L.getD j (0, 0)).1 := fun j hj => ⟨c1.k (w j hj).1 (by decide), by rw [c1.i (by decide)]; exact (w j hj).2⟩
      obtain ⟨k7, v7⟩ := w1 i c
      have eb := bex_take (l := L) (i := i) (d := (0, 0)) (P := fun f => f.1 = x1) (by omega)
      have go : ∀ y, fl01 (∃ f ∈ L.take (i + 1), f.1 = x1) y → ∃ h2, j_X1_isAskedFor_l10 n h' x1 y it = some (h2, if ∃ f ∈ L, f.1 = x1 then 1 else 0) ∧ Ch [(16, 57)] h h2 := fun y hy => by
        obtain ⟨h2, f1, f2⟩ := af_l hq n (i + 1) h' y _ w1 wl1 v1 (by omega) (by omega) hy
        exact ⟨h2, f1, c1.tr f2⟩
      by_cases d : ∃ f ∈ L.take i, f.1 = x1
      · have hx := hx.1 d
        obtain ⟨h2, f1, f2⟩ := go 1 (fl1 (by rw [eb]; exact Or.inl d))
        refine ⟨h2, ?_, f2⟩
        simp only [j_X1_isAskedFor_b10, j_X1_isAskedFor_j43, j_X1_isAskedFor_j48, hn, e1, gd_true, ult, ubd, ukd, uwr, url, unz, uhI, uhR, uhL, upI, upR, upL, eKI, eKR, eKL, eNI, eNR, eNL, eTI, eTR, eTL, eIR, eIL, eRI, eRL, eLI, eLR, rIw, rRw, rLw, decide_true, decide_false, ne_eq, not_false_eq_true, not_true_eq_false, true_and, and_true, and_false, false_and, and_self, if_true, if_false, reduceIte, Nat.reduceEqDiff, decide_not, Bool.not_true, Bool.not_false, v.1, k7, hx, if_neg z10]
        exact f1
      · have hx := hx.2 d
        by_cases d2 : (L.getD i (0, 0)).1 = x1
        · obtain ⟨h2, f1, f2⟩ := go 1 (fl1 (by rw [eb]; exact Or.inr d2))
          refine ⟨h2, ?_, f2⟩
          simp only [j_X1_isAskedFor_b10, j_X1_isAskedFor_j43, j_X1_isAskedFor_j48, hn, e1, gd_true, ult, ubd, ukd, uwr, url, unz, uhI, uhR, uhL, upI, upR, upL, eKI, eKR, eKL, eNI, eNR, eNL, eTI, eTR, eTL, eIR, eIL, eRI, eRL, eLI, eLR, rIw, rRw, rLw, decide_true, decide_false, ne_eq, not_false_eq_true, not_true_eq_false, true_and, and_true, and_false, false_and, and_self, if_true, if_false, reduceIte, Nat.reduceEqDiff, decide_not, Bool.not_true, Bool.not_false, v.1, k7, hx, if_neg z10, v7, if_pos d2]
          exact f1
        · obtain ⟨h2, f1, f2⟩ := go 0 (fl0 (by rw [eb]; exact fun z => z.elim d d2))
          refine ⟨h2, ?_, f2⟩
          simp only [j_X1_isAskedFor_b10, j_X1_isAskedFor_j43, j_X1_isAskedFor_j48, hn, e1, gd_true, ult, ubd, ukd, uwr, url, unz, uhI, uhR, uhL, upI, upR, upL, eKI, eKR, eKL, eNI, eNR, eNL, eTI, eTR, eTL, eIR, eIL, eRI, eRL, eLI, eLR, rIw, rRw, rLw, decide_true, decide_false, ne_eq, not_false_eq_true, not_true_eq_false, true_and, and_true, and_false, false_and, and_self, if_true, if_false, reduceIte, Nat.reduceEqDiff, decide_not, Bool.not_true, Bool.not_false, v.1, k7, hx, if_neg z10, v7, if_neg d2]
          exact f1
    · rw [if_neg c] at hn
      have hi : i = L.length := by omega
      have hx' : x = if ∃ f ∈ L, f.1 = x1 then 1 else 0 := by rw [hi, List.take_length] at hx; exact hx.ite
      refine ⟨h, ?_, Ch.rf⟩
      have hb : b01 (if ∃ f ∈ L, f.1 = x1 then 1 else 0) = true := b01_if
      simp only [j_X1_isAskedFor_b10, hn, gd_true, ult, ubd, ukd, uwr, url, unz, uhI, uhR, uhL, upI, upR, upL, eKI, eKR, eKL, eNI, eNR, eNL, eTI, eTR, eTL, eIR, eIL, eRI, eRL, eLI, eLR, rIw, rRw, rLw, decide_true, decide_false, ne_eq, not_false_eq_true, not_true_eq_false, true_and, and_true, and_false, false_and, and_self, if_true, if_false, reduceIte, Nat.reduceEqDiff, decide_not, Bool.not_true, Bool.not_false, v.1, hx', hb]
theorem k_asked {h : zH} {ln : Int32} (w : RK h p ic e0 sp A bq lq pl el) (hl : (aAsk A).length ≤ 2) : ∃ h', j_X1_isAskedFor h p ln = some (h', if ∃ q ∈ aAsk A, q.1 = ln then 1 else 0) ∧ Ch [(16, 57)] h h' := by
  obtain ⟨ql, ns, wl, l1, l2⟩ := rk_g8 w
  obtain ⟨h1, it, e1, wl1, v1, c1⟩ := ll_iterator wl (rk_w0 w) (by decide) (by omega)
  obtain ⟨h2, f1, f2⟩ := af_l (ns := ns) (it := it) (L := aAsk A) (x1 := ln) l1 4 0 h1 0 0 (fun j hj => ⟨c1.k (l2 j hj).1 (by decide), by rw [c1.i (by decide)]; exact (l2 j hj).2.1⟩) wl1 v1 (by omega) (by omega) (fl0 (by rw [List.take_zero]; simp))
  refine ⟨h2, ?_, c1.tr f2⟩
  simp only [j_X1_isAskedFor, gd_true, ult, ubd, ukd, uwr, url, unz, uhI, uhR, uhL, upI, upR, upL, eKI, eKR, eKL, eNI, eNR, eNL, eTI, eTR, eTL, eIR, eIL, eRI, eRL, eLI, eLR, rIw, rRw, rLw, decide_true, decide_false, ne_eq, not_false_eq_true, not_true_eq_false, true_and, and_true, and_false, false_and, and_self, if_true, if_false, reduceIte, Nat.reduceEqDiff, decide_not, Bool.not_true, Bool.not_false, rk_wk w, wl.1, e1, f1]
/-! units -/
def UR (h : zH) (r : Nat) (u : UN) : Prop := zK h r = (6, 1) ∧ zI h 6 1 0 r = nI u.1 ∧ zI h 6 1 1 r = nI u.2.1 ∧ zI h 6 1 2 r = nI u.2.2.1 ∧ zI h 6 1 3 r = nI u.2.2.2 ∧ u.1 ≤ 2 ∧ u.2.1 ≤ 1 ∧ u.2.2.1 ≤ 1 ∧ u.2.2.2 ≤ 1
theorem UR.keep {h h' : zH} {r : Nat} {u : UN} {m : List (Nat × Nat)} (w : UR h r u) (c : Ch m h h') (e : (6, 1) ∉ m) : UR h' r u := by
  unfold UR
  rw [c.i e]
  exact ⟨c.k w.1 (by decide), w.2⟩
theorem le0 {n : Nat} (h : n ≤ 2) : (nI n ≤ 0) = ¬ n ≠ 0 := by
  rw [← nI_0, nI_leI (by omega) (by omega)]
  exact propext ⟨fun q z => z (by omega), fun q => by
    by_cases c : n = 0
    · omega
    · exact absurd c q⟩
theorem ur_has {h : zH} {r : Nat} {u : UN} {c : Int32} (w : UR h r u) : j_X6_has h r c = some (h, if uHas u c then 1 else 0) := by
  obtain ⟨k, a0, a1, a2, a3, b0, b1, b2, b3⟩ := w
  have y1 : b01 1 = true := by decide
  have y0 : b01 0 = true := by decide
  have l0 := le0 (n := u.1) b0
  have l1 := le0 (n := u.2.1) (by omega)
  have l2 := le0 (n := u.2.2.1) (by omega)
  have l3 := le0 (n := u.2.2.2) (by omega)
  have fin : ∀ n : Nat, (if ¬ n ≠ 0 then j_X6_has_j13 h 0 else j_X6_has_j13 h 1) = some (h, if n ≠ 0 then 1 else 0) := fun n => by
    by_cases c : n ≠ 0
    · rw [if_neg (fun z => z c), if_pos c]; simp only [j_X6_has_j13, y1, gd_true]
    · rw [if_pos c, if_neg c]; simp only [j_X6_has_j13, y0, gd_true]
  unfold uHas
  by_cases d1 : c = 4
  · simp only [j_X6_has, j_X6_leftFor, gd_true, ult, ubd, ukd, uwr, url, unz, uhI, uhR, uhL, upI, upR, upL, eKI, eKR, eKL, eNI, eNR, eNL, eTI, eTR, eTL, eIR, eIL, eRI, eRL, eLI, eLR, rIw, rRw, rLw, decide_true, decide_false, ne_eq, not_false_eq_true, not_true_eq_false, true_and, and_true, and_false, false_and, and_self, if_true, if_false, reduceIte, Nat.reduceEqDiff, decide_not, Bool.not_true, Bool.not_false, k, if_pos d1, a1, l1]
    exact fin _
  · by_cases d2 : c = 5
    · simp only [j_X6_has, j_X6_leftFor, gd_true, ult, ubd, ukd, uwr, url, unz, uhI, uhR, uhL, upI, upR, upL, eKI, eKR, eKL, eNI, eNR, eNL, eTI, eTR, eTL, eIR, eIL, eRI, eRL, eLI, eLR, rIw, rRw, rLw, decide_true, decide_false, ne_eq, not_false_eq_true, not_true_eq_false, true_and, and_true, and_false, false_and, and_self, if_true, if_false, reduceIte, Nat.reduceEqDiff, decide_not, Bool.not_true, Bool.not_false, k, if_neg d1, if_pos d2, a2, l2]
      exact fin _
    · by_cases d3 : inR c 9 11
      · simp only [j_X6_has, j_X6_leftFor, j_X6_leftFor_j42, gd_true, ult, ubd, ukd, uwr, url, unz, uhI, uhR, uhL, upI, upR, upL, eKI, eKR, eKL, eNI, eNR, eNL, eTI, eTR, eTL, eIR, eIL, eRI, eRL, eLI, eLR, rIw, rRw, rLw, decide_true, decide_false, ne_eq, not_false_eq_true, not_true_eq_false, true_and, and_true, and_false, false_and, and_self, if_true, if_false, reduceIte, Nat.reduceEqDiff, decide_not, Bool.not_true, Bool.not_false, k, if_neg d1, if_neg d2, k_btw, if_pos d3, if_neg (by decide : ¬ (1 : Int32) = 0), a3, l3]
        exact fin _
      · simp only [j_X6_has, j_X6_leftFor, j_X6_leftFor_j42, gd_true, ult, ubd, ukd, uwr, url, unz, uhI, uhR, uhL, upI, upR, upL, eKI, eKR, eKL, eNI, eNR, eNL, eTI, eTR, eTL, eIR, eIL, eRI, eRL, eLI, eLR, rIw, rRw, rLw, decide_true, decide_false, ne_eq, not_false_eq_true, not_true_eq_false, true_and, and_true, and_false, false_and, and_self, if_true, if_false, reduceIte, Nat.reduceEqDiff, decide_not, Bool.not_true, Bool.not_false, k, if_neg d1, if_neg d2, k_btw, if01, if_pos d3, if_neg d3, a0, l0]
        exact fin _
theorem nI_m1 {n : Nat} (h : n ≠ 0) : nI n - 1 = nI (n - 1) := by
  obtain ⟨m, rfl⟩ : ∃ m, n = m + 1 := ⟨n - 1, by omega⟩
  rw [nI_succ]
  simp
theorem ur_use {h : zH} {r : Nat} {u : UN} {c : Int32} (w : UR h r u) (hu : uHas u c) : ∃ h', j_X6_use h r c = some h' ∧ UR h' r (uUse u c) ∧ Ch [(6, 1)] h h' := by
  obtain ⟨k, a0, a1, a2, a3, b0, b1, b2, b3⟩ := w
  unfold uHas at hu
  unfold uUse
  by_cases d1 : c = 4
  · rw [if_pos d1] at hu ⊢
    refine ⟨sI h 6 1 1 r (nI (u.2.1 - 1)), ?_, ⟨k, by simp only [gd_true, ult, ubd, ukd, uwr, url, unz, uhI, uhR, uhL, upI, upR, upL, eKI, eKR, eKL, eNI, eNR, eNL, eTI, eTR, eTL, eIR, eIL, eRI, eRL, eLI, eLR, rIw, rRw, rLw, decide_true, decide_false, ne_eq, not_false_eq_true, not_true_eq_false, true_and, and_true, and_false, false_and, and_self, if_true, if_false, reduceIte, Nat.reduceEqDiff, decide_not, Bool.not_true, Bool.not_false]; exact a0, by simp only [gd_true, ult, ubd, ukd, uwr, url, unz, uhI, uhR, uhL, upI, upR, upL, eKI, eKR, eKL, eNI, eNR, eNL, eTI, eTR, eTL, eIR, eIL, eRI, eRL, eLI, eLR, rIw, rRw, rLw, decide_true, decide_false, ne_eq, not_false_eq_true, not_true_eq_false, true_and, and_true, and_false, false_and, and_self, if_true, if_false, reduceIte, Nat.reduceEqDiff, decide_not, Bool.not_true, Bool.not_false], by simp only [gd_true, ult, ubd, ukd, uwr, url, unz, uhI, uhR, uhL, upI, upR, upL, eKI, eKR, eKL, eNI, eNR, eNL, eTI, eTR, eTL, eIR, eIL, eRI, eRL, eLI, eLR, rIw, rRw, rLw, decide_true, decide_false, ne_eq, not_false_eq_true, not_true_eq_false, true_and, and_true, and_false, false_and, and_self, if_true, if_false, reduceIte, Nat.reduceEqDiff, decide_not, Bool.not_true, Bool.not_false]; exact a2, by simp only [gd_true, ult, ubd, ukd, uwr, url, unz, uhI, uhR, uhL, upI, upR, upL, eKI, eKR, eKL, eNI, eNR, eNL, eTI, eTR, eTL, eIR, eIL, eRI, eRL, eLI, eLR, rIw, rRw, rLw, decide_true, decide_false, ne_eq, not_false_eq_true, not_true_eq_false, true_and, and_true, and_false, false_and, and_self, if_true, if_false, reduceIte, Nat.reduceEqDiff, decide_not, Bool.not_true, Bool.not_false]; exact a3, b0, by show u.2.1 - 1 ≤ 1; omega, b2, b3⟩, Ch.rf.sI (by simp)⟩
    simp only [j_X6_use, j_X6_use_j70, gd_true, ult, ubd, ukd, uwr, url, unz, uhI, uhR, uhL, upI, upR, upL, eKI, eKR, eKL, eNI, eNR, eNL, eTI, eTR, eTL, eIR, eIL, eRI, eRL, eLI, eLR, rIw, rRw, rLw, decide_true, decide_false, ne_eq, not_false_eq_true, not_true_eq_false, true_and, and_true, and_false, false_and, and_self, if_true, if_false, reduceIte, Nat.reduceEqDiff, decide_not, Bool.not_true, Bool.not_false, k, if_pos d1, a1, nI_m1 hu]
  · rw [if_neg d1] at hu ⊢
    by_cases d2 : c = 5
    · rw [if_pos d2] at hu ⊢
      refine ⟨sI h 6 1 2 r (nI (u.2.2.1 - 1)), ?_, ⟨k, by simp only [gd_true, ult, ubd, ukd, uwr, url, unz, uhI, uhR, uhL, upI, upR, upL, eKI, eKR, eKL, eNI, eNR, eNL, eTI, eTR, eTL, eIR, eIL, eRI, eRL, eLI, eLR, rIw, rRw, rLw, decide_true, decide_false, ne_eq, not_false_eq_true, not_true_eq_false, true_and, and_true, and_false, false_and, and_self, if_true, if_false, reduceIte, Nat.reduceEqDiff, decide_not, Bool.not_true, Bool.not_false]; exact a0, by simp only [gd_true, ult, ubd, ukd, uwr, url, unz, uhI, uhR, uhL, upI, upR, upL, eKI, eKR, eKL, eNI, eNR, eNL, eTI, eTR, eTL, eIR, eIL, eRI, eRL, eLI, eLR, rIw, rRw, rLw, decide_true, decide_false, ne_eq, not_false_eq_true, not_true_eq_false, true_and, and_true, and_false, false_and, and_self, if_true, if_false, reduceIte, Nat.reduceEqDiff, decide_not, Bool.not_true, Bool.not_false]; exact a1, by simp only [gd_true, ult, ubd, ukd, uwr, url, unz, uhI, uhR, uhL, upI, upR, upL, eKI, eKR, eKL, eNI, eNR, eNL, eTI, eTR, eTL, eIR, eIL, eRI, eRL, eLI, eLR, rIw, rRw, rLw, decide_true, decide_false, ne_eq, not_false_eq_true, not_true_eq_false, true_and, and_true, and_false, false_and, and_self, if_true, if_false, reduceIte, Nat.reduceEqDiff, decide_not, Bool.not_true, Bool.not_false], by simp only [gd_true, ult, ubd, ukd, uwr, url, unz, uhI, uhR, uhL, upI, upR, upL, eKI, eKR, eKL, eNI, eNR, eNL, eTI, eTR, eTL, eIR, eIL, eRI, eRL, eLI, eLR, rIw, rRw, rLw, decide_true, decide_false, ne_eq, not_false_eq_true, not_true_eq_false, true_and, and_true, and_false, false_and, and_self, if_true, if_false, reduceIte, Nat.reduceEqDiff, decide_not, Bool.not_true, Bool.not_false]; exact a3, b0, b1, by show u.2.2.1 - 1 ≤ 1; omega, b3⟩, Ch.rf.sI (by simp)⟩
      simp only [j_X6_use, j_X6_use_j70, gd_true, ult, ubd, ukd, uwr, url, unz, uhI, uhR, uhL, upI, upR, upL, eKI, eKR, eKL, eNI, eNR, eNL, eTI, eTR, eTL, eIR, eIL, eRI, eRL, eLI, eLR, rIw, rRw, rLw, decide_true, decide_false, ne_eq, not_false_eq_true, not_true_eq_false, true_and, and_true, and_false, false_and, and_self, if_true, if_false, reduceIte, Nat.reduceEqDiff, decide_not, Bool.not_true, Bool.not_false, k, if_neg d1, if_pos d2, a2, nI_m1 hu]
    · rw [if_neg d2] at hu ⊢
      by_cases d3 : inR c 9 11
      · rw [if_pos d3] at hu ⊢
        refine ⟨sI h 6 1 3 r (nI (u.2.2.2 - 1)), ?_, ⟨k, by simp only [gd_true, ult, ubd, ukd, uwr, url, unz, uhI, uhR, uhL, upI, upR, upL, eKI, eKR, eKL, eNI, eNR, eNL, eTI, eTR, eTL, eIR, eIL, eRI, eRL, eLI, eLR, rIw, rRw, rLw, decide_true, decide_false, ne_eq, not_false_eq_true, not_true_eq_false, true_and, and_true, and_false, false_and, and_self, if_true, if_false, reduceIte, Nat.reduceEqDiff, decide_not, Bool.not_true, Bool.not_false]; exact a0, by simp only [gd_true, ult, ubd, ukd, uwr, url, unz, uhI, uhR, uhL, upI, upR, upL, eKI, eKR, eKL, eNI, eNR, eNL, eTI, eTR, eTL, eIR, eIL, eRI, eRL, eLI, eLR, rIw, rRw, rLw, decide_true, decide_false, ne_eq, not_false_eq_true, not_true_eq_false, true_and, and_true, and_false, false_and, and_self, if_true, if_false, reduceIte, Nat.reduceEqDiff, decide_not, Bool.not_true, Bool.not_false]; exact a1, by simp only [gd_true, ult, ubd, ukd, uwr, url, unz, uhI, uhR, uhL, upI, upR, upL, eKI, eKR, eKL, eNI, eNR, eNL, eTI, eTR, eTL, eIR, eIL, eRI, eRL, eLI, eLR, rIw, rRw, rLw, decide_true, decide_false, ne_eq, not_false_eq_true, not_true_eq_false, true_and, and_true, and_false, false_and, and_self, if_true, if_false, reduceIte, Nat.reduceEqDiff, decide_not, Bool.not_true, Bool.not_false]; exact a2, by simp only [gd_true, ult, ubd, ukd, uwr, url, unz, uhI, uhR, uhL, upI, upR, upL, eKI, eKR, eKL, eNI, eNR, eNL, eTI, eTR, eTL, eIR, eIL, eRI, eRL, eLI, eLR, rIw, rRw, rLw, decide_true, decide_false, ne_eq, not_false_eq_true, not_true_eq_false, true_and, and_true, and_false, false_and, and_self, if_true, if_false, reduceIte, Nat.reduceEqDiff, decide_not, Bool.not_true, Bool.not_false], b0, b1, b2, by show u.2.2.2 - 1 ≤ 1; omega⟩, Ch.rf.sI (by simp)⟩
        simp only [j_X6_use, j_X6_use_j70, gd_true, ult, ubd, ukd, uwr, url, unz, uhI, uhR, uhL, upI, upR, upL, eKI, eKR, eKL, eNI, eNR, eNL, eTI, eTR, eTL, eIR, eIL, eRI, eRL, eLI, eLR, rIw, rRw, rLw, decide_true, decide_false, ne_eq, not_false_eq_true, not_true_eq_false, true_and, and_true, and_false, false_and, and_self, if_true, if_false, reduceIte, Nat.reduceEqDiff, decide_not, Bool.not_true, Bool.not_false, k, if_neg d1, if_neg d2, k_btw, if01, if_neg (fun z => z d3 : ¬ ¬ inR c 9 11), a3, nI_m1 hu]
      · rw [if_neg d3] at hu ⊢
        refine ⟨sI h 6 1 0 r (nI (u.1 - 1)), ?_, ⟨k, by simp only [gd_true, ult, ubd, ukd, uwr, url, unz, uhI, uhR, uhL, upI, upR, upL, eKI, eKR, eKL, eNI, eNR, eNL, eTI, eTR, eTL, eIR, eIL, eRI, eRL, eLI, eLR, rIw, rRw, rLw, decide_true, decide_false, ne_eq, not_false_eq_true, not_true_eq_false, true_and, and_true, and_false, false_and, and_self, if_true, if_false, reduceIte, Nat.reduceEqDiff, decide_not, Bool.not_true, Bool.not_false], by simp only [gd_true, ult, ubd, ukd, uwr, url, unz, uhI, uhR, uhL, upI, upR, upL, eKI, eKR, eKL, eNI, eNR, eNL, eTI, eTR, eTL, eIR, eIL, eRI, eRL, eLI, eLR, rIw, rRw, rLw, decide_true, decide_false, ne_eq, not_false_eq_true, not_true_eq_false, true_and, and_true, and_false, false_and, and_self, if_true, if_false, reduceIte, Nat.reduceEqDiff, decide_not, Bool.not_true, Bool.not_false]; exact a1, by simp only [gd_true, ult, ubd, ukd, uwr, url, unz, uhI, uhR, uhL, upI, upR, upL, eKI, eKR, eKL, eNI, eNR, eNL, eTI, eTR, eTL, eIR, eIL, eRI, eRL, eLI, eLR, rIw, rRw, rLw, decide_true, decide_false, ne_eq, not_false_eq_true, not_true_eq_false, true_and, and_true, and_false, false_and, and_self, if_true, if_false, reduceIte, Nat.reduceEqDiff, decide_not, Bool.not_true, Bool.not_false]; exact a2, by simp only [gd_true, ult, ubd, ukd, uwr, url, unz, uhI, uhR, uhL, upI, upR, upL, eKI, eKR, eKL, eNI, eNR, eNL, eTI, eTR, eTL, eIR, eIL, eRI, eRL, eLI, eLR, rIw, rRw, rLw, decide_true, decide_false, ne_eq, not_false_eq_true, not_true_eq_false, true_and, and_true, and_false, false_and, and_self, if_true, if_false, reduceIte, Nat.reduceEqDiff, decide_not, Bool.not_true, Bool.not_false]; exact a3, by show u.1 - 1 ≤ 2; omega, b1, b2, b3⟩, Ch.rf.sI (by simp)⟩
        simp only [j_X6_use, j_X6_use_j70, gd_true, ult, ubd, ukd, uwr, url, unz, uhI, uhR, uhL, upI, upR, upL, eKI, eKR, eKL, eNI, eNR, eNL, eTI, eTR, eTL, eIR, eIL, eRI, eRL, eLI, eLR, rIw, rRw, rLw, decide_true, decide_false, ne_eq, not_false_eq_true, not_true_eq_false, true_and, and_true, and_false, false_and, and_self, if_true, if_false, reduceIte, Nat.reduceEqDiff, decide_not, Bool.not_true, Bool.not_false, k, if_neg d1, if_neg d2, k_btw, if01, if_pos d3, a0, nI_m1 hu]
/-! operands -/
theorem k_hasOps {h : zH} (w : RQ h p ic e0 sp A bq lq pl el) {q : Nat} {f : FL} (fr : FR h pl q f) (ha : ∃ n, n < 24 ∧ f.1 10 = nI n) (hb : ∃ n, n < 24 ∧ f.1 11 = nI n) : j_X1_hasOperands h p q = some (h, if aHasOps A f then 1 else 0) := by
  obtain ⟨ki, kv, -⟩ := fr_ins fr (rk_g10 w.1)
  have hc : zI h 4 1 0 (zR h 8 1 0 q) = cd A f := kv 0 (by decide)
  have e10 := fr_i fr (k := 10) (by decide)
  have e11 := fr_i fr (k := 11) (by decide)
  have k10 : zK h (zR h 1 1 10 p) = (11, 51) := (rk_g4 w.1).1.1
  have y1 : b01 1 = true := by decide
  have y0 : b01 0 = true := by decide
  have z10 : ¬ (1 : Int32) = 0 := by decide
  have bpart : j_X1_hasOperands_j31 h p q (zR h 8 1 0 q) 1 = some (h, if cNdB (cd A f) → rdy A (f.1 11) then 1 else 0) := by
    by_cases d : cNdB (cd A f)
    · by_cases d2 : rdy A (f.1 11)
      · rw [if_pos (fun _ => d2)]
        simp only [j_X1_hasOperands_j31, j_X1_hasOperands_j57, j_X1_hasOperands_j62, gd_true, ult, ubd, ukd, uwr, url, unz, uhI, uhR, uhL, upI, upR, upL, eKI, eKR, eKL, eNI, eNR, eNL, eTI, eTR, eTL, eIR, eIL, eRI, eRL, eLI, eLR, rIw, rRw, rLw, decide_true, decide_false, ne_eq, not_false_eq_true, not_true_eq_false, true_and, and_true, and_false, false_and, and_self, if_true, if_false, reduceIte, Nat.reduceEqDiff, decide_not, Bool.not_true, Bool.not_false, if_neg z10, ki, x4_ndB ki hc, if01, if_neg (fun z => z d : ¬ ¬ cNdB (cd A f)), rq_k w, fr.1, k10, e11, rq_bget w hb, if_neg (fun z => z d2 : ¬ ¬ rdy A (f.1 11)), y1]
      · rw [if_neg (fun z => d2 (z d))]
        simp only [j_X1_hasOperands_j31, j_X1_hasOperands_j57, j_X1_hasOperands_j61, j_X1_hasOperands_j62, gd_true, ult, ubd, ukd, uwr, url, unz, uhI, uhR, uhL, upI, upR, upL, eKI, eKR, eKL, eNI, eNR, eNL, eTI, eTR, eTL, eIR, eIL, eRI, eRL, eLI, eLR, rIw, rRw, rLw, decide_true, decide_false, ne_eq, not_false_eq_true, not_true_eq_false, true_and, and_true, and_false, false_and, and_self, if_true, if_false, reduceIte, Nat.reduceEqDiff, decide_not, Bool.not_true, Bool.not_false, if_neg z10, ki, x4_ndB ki hc, if01, if_neg (fun z => z d : ¬ ¬ cNdB (cd A f)), rq_k w, fr.1, k10, e11, rq_bget w hb, if_pos d2, y0]
    · rw [if_pos (fun z => absurd z d)]
      simp only [j_X1_hasOperands_j31, j_X1_hasOperands_j57, j_X1_hasOperands_j62, gd_true, ult, ubd, ukd, uwr, url, unz, uhI, uhR, uhL, upI, upR, upL, eKI, eKR, eKL, eNI, eNR, eNL, eTI, eTR, eTL, eIR, eIL, eRI, eRL, eLI, eLR, rIw, rRw, rLw, decide_true, decide_false, ne_eq, not_false_eq_true, not_true_eq_false, true_and, and_true, and_false, false_and, and_self, if_true, if_false, reduceIte, Nat.reduceEqDiff, decide_not, Bool.not_true, Bool.not_false, if_neg z10, ki, x4_ndB ki hc, if01, if_pos d, y1]
  by_cases d : cNdA (cd A f)
  · by_cases d2 : rdy A (f.1 10)
    · simp only [j_X1_hasOperands, j_X1_hasOperands_j26, gd_true, ult, ubd, ukd, uwr, url, unz, uhI, uhR, uhL, upI, upR, upL, eKI, eKR, eKL, eNI, eNR, eNL, eTI, eTR, eTL, eIR, eIL, eRI, eRL, eLI, eLR, rIw, rRw, rLw, decide_true, decide_false, ne_eq, not_false_eq_true, not_true_eq_false, true_and, and_true, and_false, false_and, and_self, if_true, if_false, reduceIte, Nat.reduceEqDiff, decide_not, Bool.not_true, Bool.not_false, fr.1, ki, x4_ndA ki hc, if01, if_neg (fun z => z d : ¬ ¬ cNdA (cd A f)), rq_k w, k10, e10, rq_bget w ha, if_neg (fun z => z d2 : ¬ ¬ rdy A (f.1 10)), bpart]
      by_cases e : cNdB (cd A f) → rdy A (f.1 11)
      · rw [if_pos e, if_pos ⟨fun _ => d2, e⟩]
      · rw [if_neg e, if_neg (fun z => e z.2)]
    · simp only [j_X1_hasOperands, j_X1_hasOperands_j31, j_X1_hasOperands_j61, j_X1_hasOperands_j62, gd_true, ult, ubd, ukd, uwr, url, unz, uhI, uhR, uhL, upI, upR, upL, eKI, eKR, eKL, eNI, eNR, eNL, eTI, eTR, eTL, eIR, eIL, eRI, eRL, eLI, eLR, rIw, rRw, rLw, decide_true, decide_false, ne_eq, not_false_eq_true, not_true_eq_false, true_and, and_true, and_false, false_and, and_self, if_true, if_false, reduceIte, Nat.reduceEqDiff, decide_not, Bool.not_true, Bool.not_false, fr.1, ki, x4_ndA ki hc, if01, if_neg (fun z => z d : ¬ ¬ cNdA (cd A f)), rq_k w, k10, e10, rq_bget w ha, if_pos d2, y0]
      rw [if_neg (fun z => d2 (z.1 d))]
  · simp only [j_X1_hasOperands, j_X1_hasOperands_j26, gd_true, ult, ubd, ukd, uwr, url, unz, uhI, uhR, uhL, upI, upR, upL, eKI, eKR, eKL, eNI, eNR, eNL, eTI, eTR, eTL, eIR, eIL, eRI, eRL, eLI, eLR, rIw, rRw, rLw, decide_true, decide_false, ne_eq, not_false_eq_true, not_true_eq_false, true_and, and_true, and_false, false_and, and_self, if_true, if_false, reduceIte, Nat.reduceEqDiff, decide_not, Bool.not_true, Bool.not_false, fr.1, ki, x4_ndA ki hc, if01, if_pos d, bpart]
    by_cases e : cNdB (cd A f) → rdy A (f.1 11)
    · rw [if_pos e, if_pos ⟨fun y => absurd y d, e⟩]
    · rw [if_neg e, if_neg (fun z => e z.2)]
end KBEG

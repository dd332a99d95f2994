/-! RETIRING: the end, the word, what is learnt -/
set_option maxRecDepth 100000
theorem er_wI {h : zH} {x r k : Nat} {v : Int32} {e : Nat → Int32} (w : ER h x e) (hx : x ≠ r) : ER (sI h 5 1 k r v) x e := by
  obtain ⟨w1, w2, w3, w4, w5⟩ := w
  have e : ∀ j, zI (sI h 5 1 k r v) 5 1 j x = zI h 5 1 j x := fun j => by rw [rIw, if_neg (fun z => hx z.2.2.2)]
  exact ⟨w1, (e 0).trans w2, (e 1).trans w3, (e 2).trans w4, w5⟩
theorem er_wR {h : zH} {x r k v : Nat} {e : Nat → Int32} (w : ER h x e) (hx : x ≠ r) : ER (sR h 5 1 k r v) x e := by
  obtain ⟨w1, w2, w3, w4, w5⟩ := w
  have e : ∀ j, zR (sR h 5 1 k r v) 5 1 j x = zR h 5 1 j x := fun j => by rw [rRw, if_neg (fun z => hx z.2.2.2)]
  refine ⟨w1, w2, w3, w4, ?_⟩
  rw [e]
  exact w5
/-- the heap with a new end -/
def hEnd (h : zH) (k pl c : Int32) (q : Nat) : zH := sR (sI (sI (sI (nw h 5 1 0) 5 1 0 (zT h + 1) k) 5 1 1 (zT h + 1) pl) 5 1 2 (zT h + 1) c) 5 1 3 (zT h + 1) q
theorem hEnd_init {h : zH} {k pl c : Int32} {q : Nat} : j_X5_init (nw h 5 1 0) (zT h + 1) k pl c q = some (hEnd h k pl c q) := by
  have n0 : nzr (zT h + 1) = true := decide_eq_true (by omega)
  simp only [j_X5_init, gd_true, ult, ubd, ukd, uwr, url, unz, uhI, uhR, uhL, upI, upR, upL, eKI, eKR, eKL, eNI, eNR, eNL, eTI, eTR, eTL, eIR, eIL, eRI, eRL, eLI, eLR, rIw, rRw, rLw, decide_true, decide_false, ne_eq, not_false_eq_true, not_true_eq_false, true_and, and_true, and_false, false_and, and_self, if_true, if_false, reduceIte, Nat.reduceEqDiff, decide_not, Bool.not_true, Bool.not_false, n0, nw_Ks]
  rfl
section KRET2
variable {ic e0 sp cm B p : Nat} {h : zH} {A : AS} {bq lq pl el : List Nat}
theorem k_newEnd (w : RQ h p ic e0 sp A bq lq pl el) {k pp c : Int32} {q : Nat} {e : Nat → Int32} (h1 : e 0 = k) (h2 : e 1 = pp) (h3 : e 2 = c) (hq : (e 3 = 0 ∧ q = 0) ∨ (e 3 = 1 ∧ zK h q = (8, 1) ∧ zI h 8 1 2 q = e 4 ∧ zI h 8 1 7 q = e 5 ∧ zI h 8 1 8 q = e 6 ∧ zI h 8 1 9 q = e 7)) (h0 : 0 ∉ el) (hl : el.length + 1 < 100000) (hB : el.length + (if el.length / 2 ≤ 1 then 1 else el.length / 2) ≤ B) (hB2 : B ≤ 60000000) :
    ∃ h', j_J2_add (hEnd h k pp c q) (zR h 1 1 30 p) (zT h + 1) e0 cm B = some (h', 1) ∧ zK (hEnd h k pp c q) (zR h 1 1 30 p) = (10, 58) ∧ Ch [(10, 58), (205, 58), (5, 1)] h h' ∧ G9a h' p e0 (el ++ [zT h + 1]) (aEnd A ++ [e]) ∧ zR h' 5 1 3 (zT h + 1) = q ∧ ∀ x ∈ el, zR h' 5 1 3 x = zR h 5 1 3 x := by
  have hw := rq_wf w
  obtain ⟨a1, a2, a3⟩ := (rk_g9 w.1).resolve_left h0
  have c1 : Ch [(5, 1)] h (hEnd h k pp c q) := ((((Ch.rf.nw hw (by simp)).sI (by simp)).sI (by simp)).sI (by simp)).sR (by simp)
  have kr : zK (hEnd h k pp c q) (zT h + 1) = (5, 1) := nw_Ks (h := h) (n := 0)
  have a1' := a1.keep c1 (by decide) (by decide)
  obtain ⟨h', f1, f2, f3⟩ := al_add (cm := cm) (B := B) (x := zT h + 1) a1' (c1.2.1 hw) (by decide) hl hB hB2 (oka_of kr (by decide))
  have e30 : zR h' 1 1 30 p = zR h 1 1 30 p := by rw [f3.r (by decide), c1.r (by decide)]
  have ne : ∀ x ∈ el, x ≠ zT h + 1 := fun x hx z => by
    obtain ⟨i, hi, e⟩ := List.mem_iff_getElem.mp hx
    have := (a3 i hi).1
    rw [getD_lt hi, e] at this
    exact wf_ne hw this (by decide) z
  have r3 : zR (hEnd h k pp c q) 5 1 3 (zT h + 1) = q := by unfold hEnd; rw [rRw, if_pos ⟨rfl, rfl, rfl, rfl⟩]
  have ro : ∀ x ∈ el, zR (hEnd h k pp c q) 5 1 3 x = zR h 5 1 3 x := fun x hx => by
    unfold hEnd
    rw [rRw, if_neg (fun z => ne x hx z.2.2.2)]
    simp only [gd_true, ult, ubd, ukd, uwr, url, unz, uhI, uhR, uhL, upI, upR, upL, eKI, eKR, eKL, eNI, eNR, eNL, eTI, eTR, eTL, eIR, eIL, eRI, eRL, eLI, eLR, rIw, rRw, rLw, decide_true, decide_false, ne_eq, not_false_eq_true, not_true_eq_false, true_and, and_true, and_false, false_and, and_self, if_true, if_false, reduceIte, Nat.reduceEqDiff, decide_not, Bool.not_true, Bool.not_false]
    exact nwR (ne x hx)
  refine ⟨h', f1, a1'.1, (c1.sub (by simp)).tr (f3.sub (by simp)), ⟨by rw [e30]; exact f2, by rw [List.length_append, List.length_append, a2]; rfl, fun i hi => ?_⟩, by rw [f3.r (by decide)]; exact r3, fun x hx => by rw [f3.r (by decide)]; exact ro x hx⟩
  rw [List.length_append] at hi
  by_cases ci : i < el.length
  · rw [getD_app1 ci, getD_app1 (by omega)]
    have n1 := ne _ (getD_mem ci)
    have e1 : ER (hEnd h k pp c q) (el.getD i 0) ((aEnd A).getD i fun _ => 0) := er_wR (er_wI (er_wI (er_wI ((a3 i ci).nw hw) n1) n1) n1) n1
    exact e1.keep f3.cg (by decide)
  · have hi1 : i = el.length := by simp at hi; omega
    have ea : (el ++ [zT h + 1]).getD i 0 = zT h + 1 := by rw [hi1]; exact getD_app2
    have eb : (aEnd A ++ [e]).getD i (fun _ => 0) = e := by rw [hi1, a2]; exact getD_app2
    rw [ea, eb]
    have e1 : ER (hEnd h k pp c q) (zT h + 1) e := by
      refine ⟨kr, by rw [h1]; simp [hEnd, rIw, eIR], by rw [h2]; simp [hEnd, rIw, eIR], by rw [h3]; simp [hEnd, rIw, eIR], ?_⟩
      rw [r3]
      refine hq.imp id fun z => ?_
      obtain ⟨z1, z2, z3⟩ := z
      refine ⟨z1, c1.k z2 (by decide), ?_⟩
      rw [c1.i (by decide)]
      exact z3
    exact e1.keep f3.cg (by decide)
/-! an inner register is free again -/
theorem k_free (w : RQ h p ic e0 sp A bq lq pl el) {v : Int32} (hv : ∃ n, n < 24 ∧ v = nI n) (hl : (aFree A).length ≤ 15) : ∃ h' x, j_J21_valueOf h v ic = some (h, x) ∧ zK h (zR h 1 1 13 p) = (12, 52) ∧ j_J4_addLast h (zR h 1 1 13 p) x = some h' ∧ RQ h' p ic e0 sp (wFree A (aFree A ++ [v])) bq lq pl el ∧ Ch [(12, 52), (205, 52)] h h' := by
  obtain ⟨n, n1, n2⟩ := hv
  obtain ⟨w5a, w5b, a, w5⟩ := rk_g5 w.1
  have kx := (unbox_ok w5a (n := n) (by omega)).1
  have ox := box_ok w5a (n := n) (by omega)
  obtain ⟨h', f1, f2, f3⟩ := ad_addLast w5 (x := bx h ic n) (by decide) (wf_n0 (rq_wf w) kx (by decide)) (by rw [List.length_map]; omega) (oka_of kx (by decide))
  have hbx : bx h' ic = bx h ic := bx_keep f3.cg (by decide)
  refine ⟨h', bx h ic n, by rw [n2]; exact ox, w5.1, f1, rq_set5 w f3 ⟨w5a.keep f3 (by decide) (by decide), fun v hv => ?_, a, ?_⟩, f3⟩
  · rcases List.mem_append.mp hv with z | z
    · exact w5b v z
    · rw [List.mem_singleton.mp z, n2, ix_nI (by omega)]; exact ⟨n1, rfl⟩
  · rw [hbx, List.map_append, f3.r (by decide), List.map_singleton, n2, ix_nI (by omega)]
    exact f2
/-! what is learnt -/
theorem k_learn (w : RQ h p ic e0 sp A bq lq pl el) {q : Nat} {f : FL} (fr : FR h pl q f) (ha : ∃ n, n < 24 ∧ f.1 10 = nI n) (hb : ∃ n, n < 24 ∧ f.1 11 = nI n) : ∃ h', j_X1_learn h p q = some h' ∧ RQ h' p ic e0 sp (aLearn f A) bq lq pl el ∧ Ch [(201, 30), (201, 31)] h h' := by
  obtain ⟨ki, kv, pl1, pl2⟩ := fr_ins fr (rk_g10 w.1)
  have pl64 := (rk_g10 w.1).2.1
  have hc : zI h 4 1 0 (zR h 8 1 0 q) = cd A f := kv 0 (by decide)
  have e1 := fr_i fr (k := 1) (by decide)
  have e10 := fr_i fr (k := 10) (by decide)
  have e11 := fr_i fr (k := 11) (by decide)
  have e19 := fr_i fr (k := 19) (by decide)
  obtain ⟨na, na1, na2⟩ := ha
  obtain ⟨nb, nb1, nb2⟩ := hb
  obtain ⟨v1, v2, v3⟩ := rq_val w
  generalize hm : ix (f.1 1) = m at pl1 pl2
  have i16 : irm (f.1 1) 16 = nI (m % 16) := by rw [pl2]; exact irm_nI (k := 16) (by omega) (by decide) (by decide)
  have i8 : irm (f.1 1) 8 = nI (m % 8) := by rw [pl2]; exact irm_nI (k := 8) (by omega) (by decide) (by decide)
  have hm16 : m % 16 < aln 20 := Nat.mod_lt _ (by decide)
  have hm8 : m % 8 < aln 21 := Nat.mod_lt _ (by decide)
  obtain ⟨t1, t2, t3⟩ := rk_g2 w.1 20 (by decide)
  obtain ⟨u1, u2', u3⟩ := rk_g2 w.1 21 (by decide)
  have ea : val A (f.1 10) = aA A 9 na := by unfold val; rw [na2, ix_nI (by omega)]
  have eb : val A (f.1 11) = aA A 9 nb := by unfold val; rw [nb2, ix_nI (by omega)]
  have x16 : ix (nI (m % 16)) = m % 16 := ix_nI (by omega)
  have x8 : ix (nI (m % 8)) = m % 8 := ix_nI (by omega)
  unfold aLearn
  dsimp only
  by_cases d1 : cCnd (cd A f)
  · rw [if_pos d1, ea, eb, i16, x16]
    by_cases d2 : fulf (cd A f) (aA A 9 na) (aA A 9 nb)
    · refine ⟨_, ?_, rq_wA w (k := 20) (j := m % 16) (by decide), Ch.rf.sI (by simp)⟩
      rw [if_pos d2]
      simp only [j_X1_learn, j_X1_learn_j81, j_X1_learn_j110, gd_true, ult, ubd, ukd, uwr, url, unz, uhI, uhR, uhL, upI, upR, upL, eKI, eKR, eKL, eNI, eNR, eNL, eTI, eTR, eTL, eIR, eIL, eRI, eRL, eLI, eLR, rIw, rRw, rLw, decide_true, decide_false, ne_eq, not_false_eq_true, not_true_eq_false, true_and, and_true, and_false, false_and, and_self, if_true, if_false, reduceIte, Nat.reduceEqDiff, decide_not, Bool.not_true, Bool.not_false, fr.1, ki, x4_cnd ki hc, if01, if_neg (fun z => z d1 : ¬ ¬ cCnd (cd A f)), e1, i16, rq_k w, v1, v2, e10, e11, na2, nb2, inb_nI na1 (by decide), inb_nI nb1 (by decide), ix_nI (show na < 2 ^ 31 by omega), ix_nI (show nb < 2 ^ 31 by omega), v3 na na1, v3 nb nb1, x4_ful ki hc, if_neg (fun z => z d2 : ¬ ¬ fulf (cd A f) (aA A 9 na) (aA A 9 nb)), t1, t2, inb_nI hm16 (by decide), x16, t3 _ hm16]
    · refine ⟨_, ?_, rq_wA w (k := 20) (j := m % 16) (by decide), Ch.rf.sI (by simp)⟩
      rw [if_neg d2]
      simp only [j_X1_learn, j_X1_learn_j81, j_X1_learn_j110, gd_true, ult, ubd, ukd, uwr, url, unz, uhI, uhR, uhL, upI, upR, upL, eKI, eKR, eKL, eNI, eNR, eNL, eTI, eTR, eTL, eIR, eIL, eRI, eRL, eLI, eLR, rIw, rRw, rLw, decide_true, decide_false, ne_eq, not_false_eq_true, not_true_eq_false, true_and, and_true, and_false, false_and, and_self, if_true, if_false, reduceIte, Nat.reduceEqDiff, decide_not, Bool.not_true, Bool.not_false, fr.1, ki, x4_cnd ki hc, if01, if_neg (fun z => z d1 : ¬ ¬ cCnd (cd A f)), e1, i16, rq_k w, v1, v2, e10, e11, na2, nb2, inb_nI na1 (by decide), inb_nI nb1 (by decide), ix_nI (show na < 2 ^ 31 by omega), ix_nI (show nb < 2 ^ 31 by omega), v3 na na1, v3 nb nb1, x4_ful ki hc, if_pos d2, t1, t2, inb_nI hm16 (by decide), x16, t3 _ hm16]
  · rw [if_neg d1]
    by_cases d2 : cd A f = 17
    · rw [if_pos d2, i8, x8]
      refine ⟨_, ?_, rq_wA w (k := 21) (j := m % 8) (by decide), Ch.rf.sI (by simp)⟩
      simp only [j_X1_learn, j_X1_learn_j81, j_X1_learn_j110, gd_true, ult, ubd, ukd, uwr, url, unz, uhI, uhR, uhL, upI, upR, upL, eKI, eKR, eKL, eNI, eNR, eNL, eTI, eTR, eTL, eIR, eIL, eRI, eRL, eLI, eLR, rIw, rRw, rLw, decide_true, decide_false, ne_eq, not_false_eq_true, not_true_eq_false, true_and, and_true, and_false, false_and, and_self, if_true, if_false, reduceIte, Nat.reduceEqDiff, decide_not, Bool.not_true, Bool.not_false, fr.1, ki, x4_cnd ki hc, if01, if_pos d1, hc, if_pos d2, e1, i8, rq_k w, u1, u2', inb_nI hm8 (by decide), x8, e19]
    · rw [if_neg d2]
      refine ⟨h, ?_, w, Ch.rf⟩
      simp only [j_X1_learn, j_X1_learn_j81, j_X1_learn_j110, gd_true, ult, ubd, ukd, uwr, url, unz, uhI, uhR, uhL, upI, upR, upL, eKI, eKR, eKL, eNI, eNR, eNL, eTI, eTR, eTL, eIR, eIL, eRI, eRL, eLI, eLR, rIw, rRw, rLw, decide_true, decide_false, ne_eq, not_false_eq_true, not_true_eq_false, true_and, and_true, and_false, false_and, and_self, if_true, if_false, reduceIte, Nat.reduceEqDiff, decide_not, Bool.not_true, Bool.not_false, fr.1, ki, x4_cnd ki hc, if01, if_pos d1, hc, if_neg d2]
end KRET2

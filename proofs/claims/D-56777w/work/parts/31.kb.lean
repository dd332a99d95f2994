/-! THE COMPONENT, method by method over the heap: printed by mk40.py -/
set_option maxRecDepth 100000
def j_X1_come_j58 (k8 : zH → Nat → Int32 → Nat → Option zH) (h : zH) (x0 : Nat) (x1 : Int32) (x2 : Nat) : Option zH :=
  k8 h x0 x1 x2
def j_X1_come_b8 (k8 : zH → Nat → Int32 → Nat → Option zH) (h : zH) (x0 : Nat) (x1 : Int32) (x2 : Nat) : Option zH :=
  gd (kd h x2 16) <|
  bd (j_J28_hasNext h x2) fun y2 =>
  if y2.2 = (0 : Int32) then
    some y2.1
  else
    gd (kd y2.1 x2 16) <|
    bd (j_J28_next y2.1 x2) fun y4 =>
    gd (kd y4.1 y4.2 8) <|
    gd (kd y4.1 y4.2 8) <|
    if (hI y4.1 8 14 y4.2) = (109 : Int32) then
      gd (kd y4.1 y4.2 8) <|
      if (hI y4.1 8 20 y4.2) = x1 then
        gd (kd y4.1 y4.2 8) <|
        gd (wr y4.1 y4.2) <|
        lt (pI y4.1 8 14 y4.2 (120 : Int32)) fun S10 =>
        gd (kd S10 x0 1) <|
        gd (kd S10 y4.2 8) <|
        gd (wr S10 y4.2) <|
        lt (pI S10 8 15 y4.2 (hI S10 1 26 x0)) fun S14 =>
        j_X1_come_j58 k8 S14 x0 x1 x2
      else
        j_X1_come_j58 k8 y4.1 x0 x1 x2
    else
      j_X1_come_j58 k8 y4.1 x0 x1 x2
def j_X1_come_l8 : Nat → zH → Nat → Int32 → Nat → Option zH
  | 0 => fun _ _ _ _ => none
  | n + 1 => j_X1_come_b8 (j_X1_come_l8 n)
def j_X1_come (h : zH) (p : Nat) (a1 : Int32) : Option zH :=
  gd (kd h p 1) <|
  gd (kd h (hR h 1 15 p) 13) <|
  bd (j_J5_iterator h (hR h 1 15 p)) fun y3 =>
  j_X1_come_l8 18 y3.1 p a1 y3.2

set_option maxHeartbeats 40000000 in
theorem J_X1_come (G : zG) (h : zH) (p : Nat) (a1 : Int32) (h9 : zH) (hm : j_X1_come h p a1 = some h9) : zJv G yX1_come cX1_come 4 none 5 1 5 [zrf p, .int a1] h h9 := by
  refine zCo.st [some (zrf p), some (.int a1), none, none] rfl rfl (by simp only [zarg_r, zarg_i, zarg_l, zarg_0]; rfl) (fun X o f0 hin hw0 => ?_)
  have f := f0.e
  have hin : (Xt X).name = "come" := hin
  refine (?_ : zQ (EH h) G X 0 0 0 [some (zrf p), some (.int a1), none, none] []) h rfl hw0
  clear hw0
  generalize hR9 : (h9 : zH) = R at hm
  have hl8 : ∀ (n8 : Nat), n8 ≤ 18 → ∀ (h : zH) (x0 : Nat) (x1 : Int32) (x2 : Nat) (cl sl : Nat), cl + (0) ≤ 1 → sl + (0) ≤ 5 → j_X1_come_l8 n8 h x0 x1 x2 = some R → zQ (EH h) G X cl sl 8 [some (zrf x0), some (.int x1), some (zrf x2), none] [] := by
    intro n8
    induction n8 with
    | zero => intro _ h x0 x1 x2 cl sl _ _ hm; exact no_e hm
    | succ n8 ih =>
      intro hf8
      have ih8 := ih (by omega)
      have hj58 : ∀ (h : zH) (x0 : Nat) (x1 : Int32) (x2 : Nat) (cl sl : Nat), cl + (0) ≤ 1 → sl + (0) ≤ 5 → j_X1_come_j58 (j_X1_come_l8 n8) h x0 x1 x2 = some R → zQ (EH h) G X cl sl 58 [some (zrf x0), some (.int x1), some (zrf x2), none] [] := by
        intro h x0 x1 x2 cl sl hc hs hm
        unfold j_X1_come_j58 at hm
        refine zQ.s (fun h => zs_goto (tgt := 8) o dX1_come_58 (by decide)) ?_
        exact ih8 _ _ _ _ _ _ (by omega) (by omega) hm
      intro h x0 x1 x2 cl sl hc hs hm
      have hm : j_X1_come_b8 (j_X1_come_l8 n8) h x0 x1 x2 = some R := hm
      unfold j_X1_come_b8 at hm
      refine zQ.s (fun h => zs_aload_n (i := 2) o dX1_come_8 rfl rfl) ?_
      obtain ⟨g1, hm⟩ := gd_e hm
      obtain ⟨y2, c_y2, hm⟩ := bd_e hm
      refine zh_Fi o g1 ml_X1_164_16 (J_J28_hasNext G _ _ _ _  c_y2) dX1_come_9 rfl rfl rfl rfl (by omega) (by omega) ?_
      refine zQ.b (fun h => zs_if_eq (tgt := 61) o dX1_come_14 (by decide)) (fun c => ?_) (fun c => ?_)
      · have hm := if_e1 hm c
        refine zh_retv o f dX1_come_61 (by omega) (by omega) ((so_e hm).trans hR9.symm)
      · have hm := if_e2 hm c
        refine zQ.s (fun h => zs_aload_n (i := 2) o dX1_come_17 rfl rfl) ?_
        obtain ⟨g3, hm⟩ := gd_e hm
        obtain ⟨y4, c_y4, hm⟩ := bd_e hm
        refine zh_Fr o g3 ml_X1_170_16 (J_J28_next G _ _ _ _  c_y4) dX1_come_18 rfl rfl rfl rfl (by omega) (by omega) ?_
        obtain ⟨g5, hm⟩ := gd_e hm
        refine zh_cast (c := 8) o q1468 (by decide) (by decide) g5 dX1_come_23 ?_
        refine zQ.s (fun h => zs_astore_n (i := 3) o dX1_come_26 rfl (by decide) (Or.inr (zc2_ref rfl)) (by simp only [List.set_cons_succ, List.set_cons_zero]; rfl)) ?_
        refine zQ.s (fun h => zs_aload_n (i := 3) o dX1_come_27 rfl rfl) ?_
        obtain ⟨g6, hm⟩ := gd_e hm
        refine zh_getI o g6 fl_X1_190_8 rfl dX1_come_28 ?_
        refine zQ.s (fun h => zs_bipush (v := 109) o dX1_come_31 (by decide)) ?_
        refine zQ.b (fun h => zs_icmp_ne (tgt := 58) o dX1_come_33 (by decide)) (fun c => ?_) (fun c => ?_)
        · have hm := if_e2 hm c
          refine zQ.fg (zl_s (zl_s (zl_s (zl_n zl_0)))) ?_
          exact hj58 _ _ _ _ _ _ (by omega) (by omega) hm
        · have hm := if_e1 hm c
          refine zQ.s (fun h => zs_aload_n (i := 3) o dX1_come_36 rfl rfl) ?_
          obtain ⟨g7, hm⟩ := gd_e hm
          refine zh_getI o g7 fl_X1_194_8 rfl dX1_come_37 ?_
          refine zQ.s (fun h => zs_iload_n (i := 1) o dX1_come_40 rfl rfl) ?_
          refine zQ.b (fun h => zs_icmp_ne (tgt := 58) o dX1_come_41 (by decide)) (fun c => ?_) (fun c => ?_)
          · have hm := if_e2 hm c
            refine zQ.fg (zl_s (zl_s (zl_s (zl_n zl_0)))) ?_
            exact hj58 _ _ _ _ _ _ (by omega) (by omega) hm
          · have hm := if_e1 hm c
            refine zQ.s (fun h => zs_aload_n (i := 3) o dX1_come_44 rfl rfl) ?_
            refine zQ.s (fun h => zs_bipush (v := 120) o dX1_come_45 (by decide)) ?_
            obtain ⟨g8, hm⟩ := gd_e hm
            obtain ⟨g9, hm⟩ := gd_e hm
            obtain ⟨S10, e_S10, hm⟩ := lt_e hm
            refine zh_putI o g8 g9 fl_X1_190_8 rfl rfl ⟨rfl, rfl⟩ dX1_come_47 e_S10 ?_
            refine zQ.s (fun h => zs_aload_n (i := 3) o dX1_come_50 rfl rfl) ?_
            refine zQ.s (fun h => zs_aload_n (i := 0) o dX1_come_51 rfl rfl) ?_
            obtain ⟨g11, hm⟩ := gd_e hm
            refine zh_getI o g11 fl_X1_153_1 rfl dX1_come_52 ?_
            obtain ⟨g12, hm⟩ := gd_e hm
            obtain ⟨g13, hm⟩ := gd_e hm
            obtain ⟨S14, e_S14, hm⟩ := lt_e hm
            refine zh_putI o g12 g13 fl_X1_195_8 rfl rfl ⟨rfl, rfl⟩ dX1_come_55 e_S14 ?_
            refine zQ.fg (zl_s (zl_s (zl_s (zl_n zl_0)))) ?_
            exact hj58 _ _ _ _ _ _ (by omega) (by omega) hm
  unfold j_X1_come at hm
  refine zQ.s (fun h => zs_aload_n (i := 0) o dX1_come_0 rfl rfl) ?_
  obtain ⟨g1, hm⟩ := gd_e hm
  refine zh_getR o g1 fl_X1_79_1 rfl dX1_come_1 ?_
  obtain ⟨g2, hm⟩ := gd_e hm
  obtain ⟨y3, c_y3, hm⟩ := bd_e hm
  refine zh_Ur o g2 ml_X1_160 (J_J5_iterator G _ _ _ _  c_y3) dX1_come_4 rfl rfl rfl rfl (by omega) (by omega) ?_
  refine zQ.s (fun h => zs_astore_n (i := 2) o dX1_come_7 rfl (by decide) (Or.inr rfl) (by simp only [List.set_cons_succ, List.set_cons_zero]; rfl)) ?_
  exact hl8 18 (Nat.le_refl _) _ _ _ _ _ _ (by omega) (by omega) hm

def j_X1_answer_j67 (k8 : zH → Nat → Nat → Option zH) (h : zH) (x0 : Nat) (x1 : Nat) : Option zH :=
  k8 h x0 x1
def j_X1_answer_b8 (k8 : zH → Nat → Nat → Option zH) (h : zH) (x0 : Nat) (x1 : Nat) : Option zH :=
  gd (kd h x1 16) <|
  bd (j_J28_hasNext h x1) fun y2 =>
  if y2.2 = (0 : Int32) then
    some y2.1
  else
    gd (kd y2.1 x1 16) <|
    bd (j_J28_next y2.1 x1) fun y4 =>
    gd (kd y4.1 y4.2 7) <|
    gd (kd y4.1 y4.2 7) <|
    gd (kd y4.1 x0 1) <|
    if (hI y4.1 7 1 y4.2) = (hI y4.1 1 26 x0) then
      gd (kd y4.1 x1 16) <|
      bd (j_J28_remove y4.1 x1) fun y9 =>
      gd (kd y9 x0 1) <|
      gd (kd y9 y4.2 7) <|
      gd (kd y9 y4.2 7) <|
      gd (kd y9 (hR y9 1 24 x0) 201) <|
      gd (wr y9 (hR y9 1 24 x0)) <|
      gd (inb (irm (hI y9 7 0 y4.2) (4 : Int32)) (zN y9 (hR y9 1 24 x0))) <|
      lt (pI y9 201 (ix (irm (hI y9 7 0 y4.2) (4 : Int32))) (hR y9 1 24 x0) (hI y9 7 0 y4.2)) fun S16 =>
      gd (kd S16 y4.2 7) <|
      gd (kd S16 x0 1) <|
      bd (j_X1_come S16 x0 (hI S16 7 0 y4.2)) fun y19 =>
      j_X1_answer_j67 k8 y19 x0 x1
    else
      j_X1_answer_j67 k8 y4.1 x0 x1
def j_X1_answer_l8 : Nat → zH → Nat → Nat → Option zH
  | 0 => fun _ _ _ => none
  | n + 1 => j_X1_answer_b8 (j_X1_answer_l8 n)
def j_X1_answer (h : zH) (p : Nat) : Option zH :=
  gd (kd h p 1) <|
  gd (kd h (hR h 1 25 p) 13) <|
  bd (j_J5_iterator h (hR h 1 25 p)) fun y3 =>
  j_X1_answer_l8 4 y3.1 p y3.2

set_option maxHeartbeats 40000000 in
theorem J_X1_answer (G : zG) (h : zH) (p : Nat) (h9 : zH) (hm : j_X1_answer h p = some h9) : zJv G yX1_answer cX1_answer 3 none 6 5 25 [zrf p] h h9 := by
  refine zCo.st [some (zrf p), none, none] rfl rfl (by simp only [zarg_r, zarg_i, zarg_l, zarg_0]; rfl) (fun X o f0 hin hw0 => ?_)
  have f := f0.e
  have hin : (Xt X).name = "answer" := hin
  refine (?_ : zQ (EH h) G X 0 0 0 [some (zrf p), none, none] []) h rfl hw0
  clear hw0
  generalize hR9 : (h9 : zH) = R at hm
  have hl8 : ∀ (n8 : Nat), n8 ≤ 4 → ∀ (h : zH) (x0 : Nat) (x1 : Nat) (cl sl : Nat), cl + (n8 * 1 + 0) ≤ 5 → sl + (n8 * 5 + 0) ≤ 25 → j_X1_answer_l8 n8 h x0 x1 = some R → zQ (EH h) G X cl sl 8 [some (zrf x0), some (zrf x1), none] [] := by
    intro n8
    induction n8 with
    | zero => intro _ h x0 x1 cl sl _ _ hm; exact no_e hm
    | succ n8 ih =>
      intro hf8
      have ih8 := ih (by omega)
      have hj67 : ∀ (h : zH) (x0 : Nat) (x1 : Nat) (cl sl : Nat), cl + (0 + (n8 * 1 + 0)) ≤ 5 → sl + (0 + (n8 * 5 + 0)) ≤ 25 → j_X1_answer_j67 (j_X1_answer_l8 n8) h x0 x1 = some R → zQ (EH h) G X cl sl 67 [some (zrf x0), some (zrf x1), none] [] := by
        intro h x0 x1 cl sl hc hs hm
        unfold j_X1_answer_j67 at hm
        refine zQ.s (fun h => zs_goto (tgt := 8) o dX1_answer_67 (by decide)) ?_
        exact ih8 _ _ _ _ _ (by omega) (by omega) hm
      intro h x0 x1 cl sl hc hs hm
      have hm : j_X1_answer_b8 (j_X1_answer_l8 n8) h x0 x1 = some R := hm
      unfold j_X1_answer_b8 at hm
      refine zQ.s (fun h => zs_aload_n (i := 1) o dX1_answer_8 rfl rfl) ?_
      obtain ⟨g1, hm⟩ := gd_e hm
      obtain ⟨y2, c_y2, hm⟩ := bd_e hm
      refine zh_Fi o g1 ml_X1_164_16 (J_J28_hasNext G _ _ _ _  c_y2) dX1_answer_9 rfl rfl rfl rfl (by omega) (by omega) ?_
      refine zQ.b (fun h => zs_if_eq (tgt := 70) o dX1_answer_14 (by decide)) (fun c => ?_) (fun c => ?_)
      · have hm := if_e1 hm c
        refine zh_retv o f dX1_answer_70 (by omega) (by omega) ((so_e hm).trans hR9.symm)
      · have hm := if_e2 hm c
        refine zQ.s (fun h => zs_aload_n (i := 1) o dX1_answer_17 rfl rfl) ?_
        obtain ⟨g3, hm⟩ := gd_e hm
        obtain ⟨y4, c_y4, hm⟩ := bd_e hm
        refine zh_Fr o g3 ml_X1_170_16 (J_J28_next G _ _ _ _  c_y4) dX1_answer_18 rfl rfl rfl rfl (by omega) (by omega) ?_
        obtain ⟨g5, hm⟩ := gd_e hm
        refine zh_cast (c := 7) o q1663 (by decide) (by decide) g5 dX1_answer_23 ?_
        refine zQ.s (fun h => zs_astore_n (i := 2) o dX1_answer_26 rfl (by decide) (Or.inr (zc2_ref rfl)) (by simp only [List.set_cons_succ, List.set_cons_zero]; rfl)) ?_
        refine zQ.s (fun h => zs_aload_n (i := 2) o dX1_answer_27 rfl rfl) ?_
        obtain ⟨g6, hm⟩ := gd_e hm
        refine zh_getI o g6 fl_X1_176_7 rfl dX1_answer_28 ?_
        refine zQ.s (fun h => zs_aload_n (i := 0) o dX1_answer_31 rfl rfl) ?_
        obtain ⟨g7, hm⟩ := gd_e hm
        refine zh_getI o g7 fl_X1_153_1 rfl dX1_answer_32 ?_
        refine zQ.b (fun h => zs_icmp_ne (tgt := 67) o dX1_answer_35 (by decide)) (fun c => ?_) (fun c => ?_)
        · have hm := if_e2 hm c
          refine zQ.fg (zl_s (zl_s (zl_n zl_0))) ?_
          exact hj67 _ _ _ _ _ (by omega) (by omega) hm
        · have hm := if_e1 hm c
          refine zQ.s (fun h => zs_aload_n (i := 1) o dX1_answer_38 rfl rfl) ?_
          obtain ⟨g8, hm⟩ := gd_e hm
          obtain ⟨y9, c_y9, hm⟩ := bd_e hm
          refine zh_Fv o g8 ml_X1_179_16 (J_J28_remove G _ _ _  c_y9) dX1_answer_39 rfl rfl rfl rfl (by omega) (by omega) ?_
          refine zQ.s (fun h => zs_aload_n (i := 0) o dX1_answer_44 rfl rfl) ?_
          obtain ⟨g10, hm⟩ := gd_e hm
          refine zh_getR o g10 fl_X1_101_1 rfl dX1_answer_45 ?_
          refine zQ.s (fun h => zs_aload_n (i := 2) o dX1_answer_48 rfl rfl) ?_
          obtain ⟨g11, hm⟩ := gd_e hm
          refine zh_getI o g11 fl_X1_182_7 rfl dX1_answer_49 ?_
          refine zQ.s (fun h => zs_iconst (v := 4) o dX1_answer_52 (by decide)) ?_
          refine zQ.s (fun h => zs_irem o dX1_answer_53 (by decide)) ?_
          refine zQ.s (fun h => zs_aload_n (i := 2) o dX1_answer_54 rfl rfl) ?_
          obtain ⟨g12, hm⟩ := gd_e hm
          refine zh_getI o g12 fl_X1_182_7 rfl dX1_answer_55 ?_
          obtain ⟨g13, hm⟩ := gd_e hm
          obtain ⟨g14, hm⟩ := gd_e hm
          obtain ⟨g15, hm⟩ := gd_e hm
          obtain ⟨S16, e_S16, hm⟩ := lt_e hm
          refine zh_iast o g13 g14 g15 dX1_answer_58 e_S16 ?_
          refine zQ.s (fun h => zs_aload_n (i := 0) o dX1_answer_59 rfl rfl) ?_
          refine zQ.s (fun h => zs_aload_n (i := 2) o dX1_answer_60 rfl rfl) ?_
          obtain ⟨g17, hm⟩ := gd_e hm
          refine zh_getI o g17 fl_X1_182_7 rfl dX1_answer_61 ?_
          obtain ⟨g18, hm⟩ := gd_e hm
          obtain ⟨y19, c_y19, hm⟩ := bd_e hm
          refine zh_Vv o g18 ml_X1_185 (J_X1_come G _ _ _ _  c_y19) dX1_answer_64 rfl rfl rfl rfl (by omega) (by omega) ?_
          refine zQ.fg (zl_s (zl_s (zl_n zl_0))) ?_
          exact hj67 _ _ _ _ _ (by omega) (by omega) hm
  unfold j_X1_answer at hm
  refine zQ.s (fun h => zs_aload_n (i := 0) o dX1_answer_0 rfl rfl) ?_
  obtain ⟨g1, hm⟩ := gd_e hm
  refine zh_getR o g1 fl_X1_104_1 rfl dX1_answer_1 ?_
  obtain ⟨g2, hm⟩ := gd_e hm
  obtain ⟨y3, c_y3, hm⟩ := bd_e hm
  refine zh_Ur o g2 ml_X1_160 (J_J5_iterator G _ _ _ _  c_y3) dX1_answer_4 rfl rfl rfl rfl (by omega) (by omega) ?_
  refine zQ.s (fun h => zs_astore_n (i := 1) o dX1_answer_7 rfl (by decide) (Or.inr (zc2_ref rfl)) (by simp only [List.set_cons_succ, List.set_cons_zero]; rfl)) ?_
  exact hl8 4 (Nat.le_refl _) _ _ _ _ _ (by omega) (by omega) hm

def j_X1_ending_j63 (k16 : zH → Nat → Nat → Nat → Nat → Nat → Option (zH × Nat)) (h : zH) (e0 : Nat) (cm : Nat) (x0 : Nat) (x1 : Nat) (x2 : Nat) : Option (zH × Nat) :=
  k16 h e0 cm x0 x1 x2
def j_X1_ending_b16 (k16 : zH → Nat → Nat → Nat → Nat → Nat → Option (zH × Nat)) (h : zH) (e0 : Nat) (cm : Nat) (x0 : Nat) (x1 : Nat) (x2 : Nat) : Option (zH × Nat) :=
  gd (kd h x2 16) <|
  bd (j_J28_hasNext h x2) fun y2 =>
  if y2.2 = (0 : Int32) then
    some (y2.1, x1)
  else
    gd (kd y2.1 x2 16) <|
    bd (j_J28_next y2.1 x2) fun y4 =>
    gd (kd y4.1 y4.2 8) <|
    gd (kd y4.1 y4.2 8) <|
    if (hI y4.1 8 14 y4.2) = (120 : Int32) then
      gd (kd y4.1 y4.2 8) <|
      gd (kd y4.1 x0 1) <|
      if (hI y4.1 8 15 y4.2) = (hI y4.1 1 26 x0) then
        gd (kd y4.1 x1 10) <|
        bd (j_J2_add y4.1 x1 y4.2 e0 cm 22) fun y10 =>
        j_X1_ending_j63 k16 y10.1 e0 cm x0 x1 x2
      else
        j_X1_ending_j63 k16 y4.1 e0 cm x0 x1 x2
    else
      j_X1_ending_j63 k16 y4.1 e0 cm x0 x1 x2
def j_X1_ending_l16 : Nat → zH → Nat → Nat → Nat → Nat → Nat → Option (zH × Nat)
  | 0 => fun _ _ _ _ _ _ => none
  | n + 1 => j_X1_ending_b16 (j_X1_ending_l16 n)
def j_X1_ending (h : zH) (p : Nat) (e0 : Nat) (cm : Nat) : Option (zH × Nat) :=
  lt (zT h + 1) fun r1 =>
  lt (nw h 10 59 0) fun S2 =>
  gd (nzr r1) <|
  bd (j_J2_init S2 r1 e0) fun y4 =>
  gd (kd y4 p 1) <|
  gd (kd y4 (hR y4 1 15 p) 13) <|
  bd (j_J5_iterator y4 (hR y4 1 15 p)) fun y7 =>
  j_X1_ending_l16 17 y7.1 e0 cm p r1 y7.2

set_option maxHeartbeats 40000000 in
theorem J_X1_ending (G : zG) (h : zH) (p : Nat) (e0 : Nat) (cm : Nat) (V : Nat) (h9 : zH) (z_e0 : ("java/util/ArrayList", "DEFAULTCAPACITY_EMPTY_ELEMENTDATA", "[Ljava/lang/Object;", zrf e0) ∈ zGz G) (z_cm : cm = zGm G + 1) (hm : j_X1_ending h p e0 cm = some (h9, V)) : zJr G yX1_ending cX1_ending 4 (some (.object "java/util/List")) 7 19 552 [zrf p] h V h9 := by
  refine zCo.st [some (zrf p), none, none, none] rfl rfl (by simp only [zarg_r, zarg_i, zarg_l, zarg_0]; rfl) (fun X o f0 hin hw0 => ?_)
  have f := f0.e
  have hin : (Xt X).name = "ending" := hin
  refine (?_ : zQ (EH h) G X 0 0 0 [some (zrf p), none, none, none] []) h rfl hw0
  clear hw0
  generalize hR9 : ((h9, V) : (zH × Nat)) = R at hm
  have hl16 : ∀ (n16 : Nat), n16 ≤ 17 → ∀ (h : zH) (x0 : Nat) (x1 : Nat) (x2 : Nat) (cl sl : Nat), cl + (n16 * 1 + 0) ≤ 19 → sl + (n16 * 32 + 0) ≤ 552 → j_X1_ending_l16 n16 h e0 cm x0 x1 x2 = some R → zQ (EH h) G X cl sl 16 [some (zrf x0), some (zrf x1), some (zrf x2), none] [] := by
    intro n16
    induction n16 with
    | zero => intro _ h x0 x1 x2 cl sl _ _ hm; exact no_e hm
    | succ n16 ih =>
      intro hf16
      have ih16 := ih (by omega)
      have hj63 : ∀ (h : zH) (x0 : Nat) (x1 : Nat) (x2 : Nat) (cl sl : Nat), cl + (0 + (n16 * 1 + 0)) ≤ 19 → sl + (0 + (n16 * 32 + 0)) ≤ 552 → j_X1_ending_j63 (j_X1_ending_l16 n16) h e0 cm x0 x1 x2 = some R → zQ (EH h) G X cl sl 63 [some (zrf x0), some (zrf x1), some (zrf x2), none] [] := by
        intro h x0 x1 x2 cl sl hc hs hm
        unfold j_X1_ending_j63 at hm
        refine zQ.s (fun h => zs_goto (tgt := 16) o dX1_ending_63 (by decide)) ?_
        exact ih16 _ _ _ _ _ _ (by omega) (by omega) hm
      intro h x0 x1 x2 cl sl hc hs hm
      have hm : j_X1_ending_b16 (j_X1_ending_l16 n16) h e0 cm x0 x1 x2 = some R := hm
      unfold j_X1_ending_b16 at hm
      refine zQ.s (fun h => zs_aload_n (i := 2) o dX1_ending_16 rfl rfl) ?_
      obtain ⟨g1, hm⟩ := gd_e hm
      obtain ⟨y2, c_y2, hm⟩ := bd_e hm
      refine zh_Fi o g1 ml_X1_164_16 (J_J28_hasNext G _ _ _ _  c_y2) dX1_ending_17 rfl rfl rfl rfl (by omega) (by omega) ?_
      refine zQ.b (fun h => zs_if_eq (tgt := 66) o dX1_ending_22 (by decide)) (fun c => ?_) (fun c => ?_)
      · have hm := if_e1 hm c
        refine zQ.s (fun h => zs_aload_n (i := 1) o dX1_ending_66 rfl rfl) ?_
        refine zh_retr o f dX1_ending_67 rfl (by omega) (by omega) ((so_e hm).trans hR9.symm)
      · have hm := if_e2 hm c
        refine zQ.s (fun h => zs_aload_n (i := 2) o dX1_ending_25 rfl rfl) ?_
        obtain ⟨g3, hm⟩ := gd_e hm
        obtain ⟨y4, c_y4, hm⟩ := bd_e hm
        refine zh_Fr o g3 ml_X1_170_16 (J_J28_next G _ _ _ _  c_y4) dX1_ending_26 rfl rfl rfl rfl (by omega) (by omega) ?_
        obtain ⟨g5, hm⟩ := gd_e hm
        refine zh_cast (c := 8) o q1468 (by decide) (by decide) g5 dX1_ending_31 ?_
        refine zQ.s (fun h => zs_astore_n (i := 3) o dX1_ending_34 rfl (by decide) (Or.inr (zc2_ref rfl)) (by simp only [List.set_cons_succ, List.set_cons_zero]; rfl)) ?_
        refine zQ.s (fun h => zs_aload_n (i := 3) o dX1_ending_35 rfl rfl) ?_
        obtain ⟨g6, hm⟩ := gd_e hm
        refine zh_getI o g6 fl_X1_190_8 rfl dX1_ending_36 ?_
        refine zQ.s (fun h => zs_bipush (v := 120) o dX1_ending_39 (by decide)) ?_
        refine zQ.b (fun h => zs_icmp_ne (tgt := 63) o dX1_ending_41 (by decide)) (fun c => ?_) (fun c => ?_)
        · have hm := if_e2 hm c
          refine zQ.fg (zl_s (zl_s (zl_s (zl_n zl_0)))) ?_
          exact hj63 _ _ _ _ _ _ (by omega) (by omega) hm
        · have hm := if_e1 hm c
          refine zQ.s (fun h => zs_aload_n (i := 3) o dX1_ending_44 rfl rfl) ?_
          obtain ⟨g7, hm⟩ := gd_e hm
          refine zh_getI o g7 fl_X1_195_8 rfl dX1_ending_45 ?_
          refine zQ.s (fun h => zs_aload_n (i := 0) o dX1_ending_48 rfl rfl) ?_
          obtain ⟨g8, hm⟩ := gd_e hm
          refine zh_getI o g8 fl_X1_153_1 rfl dX1_ending_49 ?_
          refine zQ.b (fun h => zs_icmp_ne (tgt := 63) o dX1_ending_52 (by decide)) (fun c => ?_) (fun c => ?_)
          · have hm := if_e2 hm c
            refine zQ.fg (zl_s (zl_s (zl_s (zl_n zl_0)))) ?_
            exact hj63 _ _ _ _ _ _ (by omega) (by omega) hm
          · have hm := if_e1 hm c
            refine zQ.s (fun h => zs_aload_n (i := 1) o dX1_ending_55 rfl rfl) ?_
            refine zQ.s (fun h => zs_aload_n (i := 3) o dX1_ending_56 rfl rfl) ?_
            obtain ⟨g9, hm⟩ := gd_e hm
            obtain ⟨y10, c_y10, hm⟩ := bd_e hm
            refine zh_Fi o g9 ml_X1_198_10 (J_J2_add G _ _ _ _ _ _ _ _ z_e0 z_cm c_y10) dX1_ending_57 rfl rfl rfl rfl (by omega) (by omega) ?_
            refine zQ.s (fun h => zs_pop o dX1_ending_62 (by first | rfl | exact zrf_cat _)) ?_
            refine zQ.fg (zl_s (zl_s (zl_s (zl_n zl_0)))) ?_
            exact hj63 _ _ _ _ _ _ (by omega) (by omega) hm
  unfold j_X1_ending at hm
  obtain ⟨r1, e_r1, hm⟩ := lt_e hm
  obtain ⟨S2, e_S2, hm⟩ := lt_e hm
  refine zh_new (N := 3) o nl_X1_13 rfl dX1_ending_0 (by omega) (by omega) e_S2 ?_
  refine zQ.nmr e_r1 ?_
  refine zQ.s (fun h => zs_dup o dX1_ending_3 (by first | rfl | exact zrf_cat _)) ?_
  obtain ⟨g3, hm⟩ := gd_e hm
  obtain ⟨y4, c_y4, hm⟩ := bd_e hm
  refine zh_Iv o g3 ml_X1_15 (J_J2_init G _ _ _ _ z_e0 c_y4) dX1_ending_4 rfl rfl rfl rfl (by omega) (by omega) ?_
  refine zQ.s (fun h => zs_astore_n (i := 1) o dX1_ending_7 rfl (by decide) (Or.inr (zc2_ref rfl)) (by simp only [List.set_cons_succ, List.set_cons_zero]; rfl)) ?_
  refine zQ.s (fun h => zs_aload_n (i := 0) o dX1_ending_8 rfl rfl) ?_
  obtain ⟨g5, hm⟩ := gd_e hm
  refine zh_getR o g5 fl_X1_79_1 rfl dX1_ending_9 ?_
  obtain ⟨g6, hm⟩ := gd_e hm
  obtain ⟨y7, c_y7, hm⟩ := bd_e hm
  refine zh_Ur o g6 ml_X1_160 (J_J5_iterator G _ _ _ _  c_y7) dX1_ending_12 rfl rfl rfl rfl (by omega) (by omega) ?_
  refine zQ.s (fun h => zs_astore_n (i := 2) o dX1_ending_15 rfl (by decide) (Or.inr (zc2_ref rfl)) (by simp only [List.set_cons_succ, List.set_cons_zero]; rfl)) ?_
  exact hl16 17 (Nat.le_refl _) _ _ _ _ _ _ (by omega) (by omega) hm

def j_X1_lose (h : zH) (p : Nat) (a1 : Int32) (sp : Nat) : Option zH :=
  gd (kd h p 1) <|
  gd (kd h sp 20) <|
  bd (j_J7_indexOf h sp a1) fun y3 =>
  gd (kd y3.1 (hR h 1 31 p) 201) <|
  gd (inb y3.2 (zN y3.1 (hR h 1 31 p))) <|
  gd (kd y3.1 (hR h 1 31 p) 201) <|
  gd (wr y3.1 (hR h 1 31 p)) <|
  gd (inb y3.2 (zN y3.1 (hR h 1 31 p))) <|
  lt (pI y3.1 201 (ix y3.2) (hR h 1 31 p) ((hI y3.1 201 (ix y3.2) (hR h 1 31 p)) + (1 : Int32))) fun S9 =>
  some S9

set_option maxHeartbeats 40000000 in
theorem J_X1_lose (G : zG) (h : zH) (p : Nat) (a1 : Int32) (sp : Nat) (h9 : zH) (z_cs : ("java/lang/String", "COMPACT_STRINGS", "Z", .int 1) ∈ zGz G) (z_sp : sp = zGs G + 1) (hm : j_X1_lose h p a1 sp = some h9) : zJv G yX1_lose cX1_lose 2 none 4 0 0 [zrf p, .int a1] h h9 := by
  refine zCo.st [some (zrf p), some (.int a1)] rfl rfl (by simp only [zarg_r, zarg_i, zarg_l, zarg_0]; rfl) (fun X o f0 hin hw0 => ?_)
  have f := f0.e
  have hin : (Xt X).name = "lose" := hin
  refine (?_ : zQ (EH h) G X 0 0 0 [some (zrf p), some (.int a1)] []) h rfl hw0
  clear hw0
  generalize hR9 : (h9 : zH) = R at hm
  unfold j_X1_lose at hm
  refine zQ.s (fun h => zs_aload_n (i := 0) o dX1_lose_0 rfl rfl) ?_
  obtain ⟨g1, hm⟩ := gd_e hm
  refine zh_getR o g1 fl_X1_118_1 rfl dX1_lose_1 ?_
  refine zh_ldcS o z_sp dX1_lose_4 ?_
  refine zQ.s (fun h => zs_iload_n (i := 1) o dX1_lose_6 rfl rfl) ?_
  obtain ⟨g2, hm⟩ := gd_e hm
  obtain ⟨y3, c_y3, hm⟩ := bd_e hm
  refine zh_Vi o g2 ml_X1_352 (J_J7_indexOf G _ _ _ _ _ z_cs c_y3) dX1_lose_7 rfl rfl rfl rfl (by omega) (by omega) ?_
  refine zQ.s (fun h => zs_dup2_11 o dX1_lose_10 (by first | rfl | exact zrf_cat _) (by first | rfl | exact zrf_cat _)) ?_
  obtain ⟨g4, hm⟩ := gd_e hm
  obtain ⟨g5, hm⟩ := gd_e hm
  refine zh_iald o g4 g5 dX1_lose_11 ?_
  refine zQ.s (fun h => zs_iconst (v := 1) o dX1_lose_12 (by decide)) ?_
  refine zQ.s (fun h => zs_iadd o dX1_lose_13) ?_
  obtain ⟨g6, hm⟩ := gd_e hm
  obtain ⟨g7, hm⟩ := gd_e hm
  obtain ⟨g8, hm⟩ := gd_e hm
  obtain ⟨S9, e_S9, hm⟩ := lt_e hm
  refine zh_iast o g6 g7 g8 dX1_lose_14 e_S9 ?_
  refine zh_retv o f dX1_lose_15 (by omega) (by omega) ((so_e hm).trans hR9.symm)

def j_X1_undo_j53 (h : zH) (ic : Nat) : Option zH :=
  some h
def j_X1_undo (h : zH) (p : Nat) (a1 : Nat) (ic : Nat) : Option zH :=
  gd (kd h a1 8) <|
  gd (wr h a1) <|
  lt (pI h 8 22 a1 (1 : Int32)) fun S3 =>
  gd (kd S3 p 1) <|
  gd (kd S3 p 1) <|
  gd (wr S3 p) <|
  lt (pI S3 1 34 p ((hI S3 1 34 p) + (1 : Int32))) fun S7 =>
  gd (kd S7 a1 8) <|
  if (hI S7 8 12 a1) = (-1 : Int32) then
    j_X1_undo_j53 S7 ic
  else
    gd (kd S7 p 1) <|
    gd (kd S7 a1 8) <|
    gd (kd S7 (hR S7 8 0 a1) 4) <|
    gd (kd S7 a1 8) <|
    gd (kd S7 (hR S7 1 11 p) 201) <|
    gd (wr S7 (hR S7 1 11 p)) <|
    gd (inb (hI S7 4 1 (hR S7 8 0 a1)) (zN S7 (hR S7 1 11 p))) <|
    lt (pI S7 201 (ix (hI S7 4 1 (hR S7 8 0 a1))) (hR S7 1 11 p) (hI S7 8 13 a1)) fun S16 =>
    gd (kd S16 p 1) <|
    gd (kd S16 a1 8) <|
    bd (j_J21_valueOf S16 (hI S16 8 12 a1) ic) fun y19 =>
    gd (kd y19.1 (hR S16 1 13 p) 12) <|
    bd (j_J4_addLast y19.1 (hR S16 1 13 p) y19.2) fun y21 =>
    j_X1_undo_j53 y21 ic

set_option maxHeartbeats 40000000 in
theorem J_X1_undo (G : zG) (h : zH) (p : Nat) (a1 : Nat) (ic : Nat) (h9 : zH) (z_ih : ("java/lang/Integer$IntegerCache", "high", "I", .int 127) ∈ zGz G) (z_ic : ("java/lang/Integer$IntegerCache", "cache", "[Ljava/lang/Integer;", zrf ic) ∈ zGz G) (hm : j_X1_undo h p a1 ic = some h9) : zJv G yX1_undo cX1_undo 2 none 2 1 1 [zrf p, zrf a1] h h9 := by
  refine zCo.st [some (zrf p), some (zrf a1)] rfl rfl (by simp only [zarg_r, zarg_i, zarg_l, zarg_0]; rfl) (fun X o f0 hin hw0 => ?_)
  have f := f0.e
  have hin : (Xt X).name = "undo" := hin
  refine (?_ : zQ (EH h) G X 0 0 0 [some (zrf p), some (zrf a1)] []) h rfl hw0
  clear hw0
  generalize hR9 : (h9 : zH) = R at hm
  have hj53 : ∀ (h : zH) (cl sl : Nat), cl + (0) ≤ 1 → sl + (0) ≤ 1 → j_X1_undo_j53 h ic = some R → zQ (EH h) G X cl sl 53 [none, none] [] := by
    intro h cl sl hc hs hm
    unfold j_X1_undo_j53 at hm
    refine zh_retv o f dX1_undo_53 (by omega) (by omega) ((so_e hm).trans hR9.symm)
  unfold j_X1_undo at hm
  refine zQ.s (fun h => zs_aload_n (i := 1) o dX1_undo_0 rfl rfl) ?_
  refine zQ.s (fun h => zs_iconst (v := 1) o dX1_undo_1 (by decide)) ?_
  obtain ⟨g1, hm⟩ := gd_e hm
  obtain ⟨g2, hm⟩ := gd_e hm
  obtain ⟨S3, e_S3, hm⟩ := lt_e hm
  refine zh_putI o g1 g2 fl_X1_209_8 rfl rfl ⟨rfl, rfl⟩ dX1_undo_2 e_S3 ?_
  refine zQ.s (fun h => zs_aload_n (i := 0) o dX1_undo_5 rfl rfl) ?_
  refine zQ.s (fun h => zs_dup o dX1_undo_6 (by first | rfl | exact zrf_cat _)) ?_
  obtain ⟨g4, hm⟩ := gd_e hm
  refine zh_getI o g4 fl_X1_337_1 rfl dX1_undo_7 ?_
  refine zQ.s (fun h => zs_iconst (v := 1) o dX1_undo_10 (by decide)) ?_
  refine zQ.s (fun h => zs_iadd o dX1_undo_11) ?_
  obtain ⟨g5, hm⟩ := gd_e hm
  obtain ⟨g6, hm⟩ := gd_e hm
  obtain ⟨S7, e_S7, hm⟩ := lt_e hm
  refine zh_putI o g5 g6 fl_X1_337_1 rfl rfl ⟨rfl, rfl⟩ dX1_undo_12 e_S7 ?_
  refine zQ.s (fun h => zs_aload_n (i := 1) o dX1_undo_15 rfl rfl) ?_
  obtain ⟨g8, hm⟩ := gd_e hm
  refine zh_getI o g8 fl_X1_328_8 rfl dX1_undo_16 ?_
  refine zQ.s (fun h => zs_iconst (v := -1) o dX1_undo_19 (by decide)) ?_
  refine zQ.b (fun h => zs_icmp_eq (tgt := 53) o dX1_undo_20 (by decide)) (fun c => ?_) (fun c => ?_)
  · have hm := if_e1 hm c
    refine zQ.fg (zl_n (zl_n zl_0)) ?_
    exact hj53 _ _ _ (by omega) (by omega) hm
  · have hm := if_e2 hm c
    refine zQ.s (fun h => zs_aload_n (i := 0) o dX1_undo_23 rfl rfl) ?_
    obtain ⟨g9, hm⟩ := gd_e hm
    refine zh_getR o g9 fl_X1_60_1 rfl dX1_undo_24 ?_
    refine zQ.s (fun h => zs_aload_n (i := 1) o dX1_undo_27 rfl rfl) ?_
    obtain ⟨g10, hm⟩ := gd_e hm
    refine zh_getR o g10 fl_X1_220_8 rfl dX1_undo_28 ?_
    obtain ⟨g11, hm⟩ := gd_e hm
    refine zh_getI o g11 fl_X1_340_4 rfl dX1_undo_31 ?_
    refine zQ.s (fun h => zs_aload_n (i := 1) o dX1_undo_34 rfl rfl) ?_
    obtain ⟨g12, hm⟩ := gd_e hm
    refine zh_getI o g12 fl_X1_343_8 rfl dX1_undo_35 ?_
    obtain ⟨g13, hm⟩ := gd_e hm
    obtain ⟨g14, hm⟩ := gd_e hm
    obtain ⟨g15, hm⟩ := gd_e hm
    obtain ⟨S16, e_S16, hm⟩ := lt_e hm
    refine zh_iast o g13 g14 g15 dX1_undo_38 e_S16 ?_
    refine zQ.s (fun h => zs_aload_n (i := 0) o dX1_undo_39 rfl rfl) ?_
    obtain ⟨g17, hm⟩ := gd_e hm
    refine zh_getR o g17 fl_X1_69_1 rfl dX1_undo_40 ?_
    refine zQ.s (fun h => zs_aload_n (i := 1) o dX1_undo_43 rfl rfl) ?_
    obtain ⟨g18, hm⟩ := gd_e hm
    refine zh_getI o g18 fl_X1_328_8 rfl dX1_undo_44 ?_
    obtain ⟨y19, c_y19, hm⟩ := bd_e hm
    refine zh_Sr o ml_X1_131 (J_J21_valueOf G _ _ _ _ _ z_ih z_ic c_y19) dX1_undo_47 rfl rfl rfl rfl (by omega) (by omega) ?_
    obtain ⟨g20, hm⟩ := gd_e hm
    obtain ⟨y21, c_y21, hm⟩ := bd_e hm
    refine zh_Vv o g20 ml_X1_137 (J_J4_addLast G _ _ _ _  c_y21) dX1_undo_50 rfl rfl rfl rfl (by omega) (by omega) ?_
    refine zQ.fg (zl_n (zl_n zl_0)) ?_
    exact hj53 _ _ _ (by omega) (by omega) hm

def j_X1_throwFrom_j77 (k18 : zH → Nat → Nat → Nat → Int32 → Nat → Int32 → Option zH) (h : zH) (ic : Nat) (x0 : Nat) (x1 : Nat) (x2 : Int32) (x3 : Nat) (x4 : Int32) : Option zH :=
  k18 h ic x0 x1 x2 x3 x4
def j_X1_throwFrom_j65 (k18 : zH → Nat → Nat → Nat → Int32 → Nat → Int32 → Option zH) (h : zH) (ic : Nat) (x0 : Nat) (x1 : Nat) (x2 : Int32) (x3 : Nat) (x4 : Int32) (x5 : Nat) : Option zH :=
  gd (kd h x3 17) <|
  bd (j_J32_remove h x3) fun y2 =>
  gd (kd y2 x0 1) <|
  bd (j_X1_undo y2 x0 x5 ic) fun y4 =>
  j_X1_throwFrom_j77 k18 y4 ic x0 x1 x2 x3 x4
def j_X1_throwFrom_j54 (k18 : zH → Nat → Nat → Nat → Int32 → Nat → Int32 → Option zH) (h : zH) (ic : Nat) (x0 : Nat) (x1 : Nat) (x2 : Int32) (x3 : Nat) (x5 : Nat) (s0 : Int32) : Option zH :=
  if s0 = (0 : Int32) then
    if x2 = (0 : Int32) then
      j_X1_throwFrom_j77 k18 h ic x0 x1 x2 x3 s0
    else
      j_X1_throwFrom_j65 k18 h ic x0 x1 x2 x3 s0 x5
  else
    j_X1_throwFrom_j65 k18 h ic x0 x1 x2 x3 s0 x5
def j_X1_throwFrom_b89 (k89 : zH → Nat → Nat → Option zH) (h : zH) (ic : Nat) (x5 : Nat) : Option zH :=
  gd (kd h x5 16) <|
  bd (j_J28_hasNext h x5) fun y2 =>
  if y2.2 = (0 : Int32) then
    some y2.1
  else
    gd (kd y2.1 x5 16) <|
    bd (j_J28_next y2.1 x5) fun y4 =>
    gd (kd y4.1 y4.2 8) <|
    gd (kd y4.1 y4.2 8) <|
    if (hI y4.1 8 22 y4.2) = (0 : Int32) then
      k89 y4.1 ic x5
    else
      gd (kd y4.1 x5 16) <|
      bd (j_J28_remove y4.1 x5) fun y8 =>
      k89 y8 ic x5
def j_X1_throwFrom_l89 : Nat → zH → Nat → Nat → Option zH
  | 0 => fun _ _ _ => none
  | n + 1 => j_X1_throwFrom_b89 (j_X1_throwFrom_l89 n)
def j_X1_throwFrom_j80 (h : zH) (ic : Nat) (x0 : Nat) : Option zH :=
  gd (kd h x0 1) <|
  gd (kd h (hR h 1 16 x0) 13) <|
  bd (j_J5_iterator h (hR h 1 16 x0)) fun y3 =>
  j_X1_throwFrom_l89 18 y3.1 ic y3.2
def j_X1_throwFrom_b18 (k18 : zH → Nat → Nat → Nat → Int32 → Nat → Int32 → Option zH) (h : zH) (ic : Nat) (x0 : Nat) (x1 : Nat) (x2 : Int32) (x3 : Nat) (x4 : Int32) : Option zH :=
  if x4 = (0 : Int32) then
    j_X1_throwFrom_j80 h ic x0
  else
    gd (kd h x3 17) <|
    bd (j_J32_hasNext h x3) fun y2 =>
    if y2.2 = (0 : Int32) then
      j_X1_throwFrom_j80 y2.1 ic x0
    else
      gd (kd y2.1 x3 17) <|
      bd (j_J32_next y2.1 x3) fun y4 =>
      gd (kd y4.1 y4.2 8) <|
      if y4.2 = x1 then
        j_X1_throwFrom_j54 k18 y4.1 ic x0 x1 x2 x3 y4.2 (0 : Int32)
      else
        j_X1_throwFrom_j54 k18 y4.1 ic x0 x1 x2 x3 y4.2 (1 : Int32)
def j_X1_throwFrom_l18 : Nat → zH → Nat → Nat → Nat → Int32 → Nat → Int32 → Option zH
  | 0 => fun _ _ _ _ _ _ _ => none
  | n + 1 => j_X1_throwFrom_b18 (j_X1_throwFrom_l18 n)
def j_X1_throwFrom (h : zH) (p : Nat) (a1 : Nat) (a2 : Int32) (ic : Nat) : Option zH :=
  gd (kd h p 1) <|
  gd (kd h (hR h 1 14 p) 12) <|
  bd (j_J4_clear h (hR h 1 14 p)) fun y3 =>
  gd (kd y3 p 1) <|
  gd (kd y3 (hR y3 1 15 p) 13) <|
  bd (j_J6_descendingIterator y3 (hR y3 1 15 p)) fun y6 =>
  j_X1_throwFrom_l18 18 y6.1 ic p a1 a2 y6.2 (1 : Int32)

set_option maxHeartbeats 40000000 in
theorem J_X1_throwFrom (G : zG) (h : zH) (p : Nat) (a1 : Nat) (a2 : Int32) (ic : Nat) (h9 : zH) (z_ih : ("java/lang/Integer$IntegerCache", "high", "I", .int 127) ∈ zGz G) (z_ic : ("java/lang/Integer$IntegerCache", "cache", "[Ljava/lang/Integer;", zrf ic) ∈ zGz G) (hm : j_X1_throwFrom h p a1 a2 ic = some h9) : zJv G yX1_throwFrom cX1_throwFrom 6 none 5 21 30 [zrf p, zrf a1, .int a2] h h9 := by
  refine zCo.st [some (zrf p), some (zrf a1), some (.int a2), none, none, none] rfl rfl (by simp only [zarg_r, zarg_i, zarg_l, zarg_0]; rfl) (fun X o f0 hin hw0 => ?_)
  have f := f0.e
  have hin : (Xt X).name = "throwFrom" := hin
  refine (?_ : zQ (EH h) G X 0 0 0 [some (zrf p), some (zrf a1), some (.int a2), none, none, none] []) h rfl hw0
  clear hw0
  generalize hR9 : (h9 : zH) = R at hm
  have hl89 : ∀ (n89 : Nat), n89 ≤ 18 → ∀ (h : zH) (x5 : Nat) (cl sl : Nat), cl + (0) ≤ 21 → sl + (0) ≤ 30 → j_X1_throwFrom_l89 n89 h ic x5 = some R → zQ (EH h) G X cl sl 89 [none, none, none, none, none, some (zrf x5)] [] := by
    intro n89
    induction n89 with
    | zero => intro _ h x5 cl sl _ _ hm; exact no_e hm
    | succ n89 ih =>
      intro hf89
      have ih89 := ih (by omega)
      intro h x5 cl sl hc hs hm
      have hm : j_X1_throwFrom_b89 (j_X1_throwFrom_l89 n89) h ic x5 = some R := hm
      unfold j_X1_throwFrom_b89 at hm
      refine zQ.s (fun h => zs_aload (i := 5) o dX1_throwFrom_89 rfl) ?_
      obtain ⟨g1, hm⟩ := gd_e hm
      obtain ⟨y2, c_y2, hm⟩ := bd_e hm
      refine zh_Fi o g1 ml_X1_164_16 (J_J28_hasNext G _ _ _ _  c_y2) dX1_throwFrom_91 rfl rfl rfl rfl (by omega) (by omega) ?_
      refine zQ.b (fun h => zs_if_eq (tgt := 125) o dX1_throwFrom_96 (by decide)) (fun c => ?_) (fun c => ?_)
      · have hm := if_e1 hm c
        refine zh_retv o f dX1_throwFrom_125 (by omega) (by omega) ((so_e hm).trans hR9.symm)
      · have hm := if_e2 hm c
        refine zQ.s (fun h => zs_aload (i := 5) o dX1_throwFrom_99 rfl) ?_
        obtain ⟨g3, hm⟩ := gd_e hm
        obtain ⟨y4, c_y4, hm⟩ := bd_e hm
        refine zh_Fr o g3 ml_X1_170_16 (J_J28_next G _ _ _ _  c_y4) dX1_throwFrom_101 rfl rfl rfl rfl (by omega) (by omega) ?_
        obtain ⟨g5, hm⟩ := gd_e hm
        refine zh_cast (c := 8) o q1468 (by decide) (by decide) g5 dX1_throwFrom_106 ?_
        obtain ⟨g6, hm⟩ := gd_e hm
        refine zh_getI o g6 fl_X1_209_8 rfl dX1_throwFrom_109 ?_
        refine zQ.b (fun h => zs_if_eq (tgt := 89) o dX1_throwFrom_112 (by decide)) (fun c => ?_) (fun c => ?_)
        · have hm := if_e1 hm c
          exact ih89 _ _ _ _ (by omega) (by omega) hm
        · have hm := if_e2 hm c
          refine zQ.s (fun h => zs_aload (i := 5) o dX1_throwFrom_115 rfl) ?_
          obtain ⟨g7, hm⟩ := gd_e hm
          obtain ⟨y8, c_y8, hm⟩ := bd_e hm
          refine zh_Fv o g7 ml_X1_179_16 (J_J28_remove G _ _ _  c_y8) dX1_throwFrom_117 rfl rfl rfl rfl (by omega) (by omega) ?_
          refine zQ.s (fun h => zs_goto (tgt := 89) o dX1_throwFrom_122 (by decide)) ?_
          exact ih89 _ _ _ _ (by omega) (by omega) hm
  have hj80 : ∀ (h : zH) (x0 : Nat) (cl sl : Nat), cl + (1) ≤ 21 → sl + (5) ≤ 30 → j_X1_throwFrom_j80 h ic x0 = some R → zQ (EH h) G X cl sl 80 [some (zrf x0), none, none, none, none, none] [] := by
    intro h x0 cl sl hc hs hm
    unfold j_X1_throwFrom_j80 at hm
    refine zQ.s (fun h => zs_aload_n (i := 0) o dX1_throwFrom_80 rfl rfl) ?_
    obtain ⟨g1, hm⟩ := gd_e hm
    refine zh_getR o g1 fl_X1_83_1 rfl dX1_throwFrom_81 ?_
    obtain ⟨g2, hm⟩ := gd_e hm
    obtain ⟨y3, c_y3, hm⟩ := bd_e hm
    refine zh_Ur o g2 ml_X1_160 (J_J5_iterator G _ _ _ _  c_y3) dX1_throwFrom_84 rfl rfl rfl rfl (by omega) (by omega) ?_
    refine zQ.s (fun h => zs_astore (i := 5) o dX1_throwFrom_87 (by decide) (Or.inr rfl) (by simp only [List.set_cons_succ, List.set_cons_zero]; rfl)) ?_
    refine zQ.fg (zl_n (zl_n (zl_n (zl_n (zl_n (zl_s zl_0)))))) ?_
    exact hl89 18 (Nat.le_refl _) _ _ _ _ (by omega) (by omega) hm
  have hl18 : ∀ (n18 : Nat), n18 ≤ 18 → ∀ (h : zH) (x0 : Nat) (x1 : Nat) (x2 : Int32) (x3 : Nat) (x4 : Int32) (cl sl : Nat), cl + (n18 * 1 + 1) ≤ 21 → sl + (n18 * 1 + 5) ≤ 30 → j_X1_throwFrom_l18 n18 h ic x0 x1 x2 x3 x4 = some R → zQ (EH h) G X cl sl 18 [some (zrf x0), some (zrf x1), some (.int x2), some (zrf x3), some (.int x4), none] [] := by
    intro n18
    induction n18 with
    | zero => intro _ h x0 x1 x2 x3 x4 cl sl _ _ hm; exact no_e hm
    | succ n18 ih =>
      intro hf18
      have ih18 := ih (by omega)
      have hj77 : ∀ (h : zH) (x0 : Nat) (x1 : Nat) (x2 : Int32) (x3 : Nat) (x4 : Int32) (cl sl : Nat), cl + (0 + (n18 * 1 + 1)) ≤ 21 → sl + (0 + (n18 * 1 + 5)) ≤ 30 → j_X1_throwFrom_j77 (j_X1_throwFrom_l18 n18) h ic x0 x1 x2 x3 x4 = some R → zQ (EH h) G X cl sl 77 [some (zrf x0), some (zrf x1), some (.int x2), some (zrf x3), some (.int x4), none] [] := by
        intro h x0 x1 x2 x3 x4 cl sl hc hs hm
        unfold j_X1_throwFrom_j77 at hm
        refine zQ.s (fun h => zs_goto (tgt := 18) o dX1_throwFrom_77 (by decide)) ?_
        exact ih18 _ _ _ _ _ _ _ _ (by omega) (by omega) hm
      have hj65 : ∀ (h : zH) (x0 : Nat) (x1 : Nat) (x2 : Int32) (x3 : Nat) (x4 : Int32) (x5 : Nat) (cl sl : Nat), cl + (1 + (n18 * 1 + 1)) ≤ 21 → sl + (1 + (n18 * 1 + 5)) ≤ 30 → j_X1_throwFrom_j65 (j_X1_throwFrom_l18 n18) h ic x0 x1 x2 x3 x4 x5 = some R → zQ (EH h) G X cl sl 65 [some (zrf x0), some (zrf x1), some (.int x2), some (zrf x3), some (.int x4), some (zrf x5)] [] := by
        intro h x0 x1 x2 x3 x4 x5 cl sl hc hs hm
        unfold j_X1_throwFrom_j65 at hm
        refine zQ.s (fun h => zs_aload_n (i := 3) o dX1_throwFrom_65 rfl rfl) ?_
        obtain ⟨g1, hm⟩ := gd_e hm
        obtain ⟨y2, c_y2, hm⟩ := bd_e hm
        refine zh_Fv o g1 ml_X1_179_17 (J_J32_remove G _ _ _  c_y2) dX1_throwFrom_66 rfl rfl rfl rfl (by omega) (by omega) ?_
        refine zQ.s (fun h => zs_aload_n (i := 0) o dX1_throwFrom_71 rfl rfl) ?_
        refine zQ.s (fun h => zs_aload (i := 5) o dX1_throwFrom_72 rfl) ?_
        obtain ⟨g3, hm⟩ := gd_e hm
        obtain ⟨y4, c_y4, hm⟩ := bd_e hm
        refine zh_Vv o g3 ml_X1_334 (J_X1_undo G _ _ _ _ _ z_ih z_ic c_y4) dX1_throwFrom_74 rfl rfl rfl rfl (by omega) (by omega) ?_
        refine zQ.fg (zl_s (zl_s (zl_s (zl_s (zl_s (zl_n zl_0)))))) ?_
        exact hj77 _ _ _ _ _ _ _ _ (by omega) (by omega) hm
      have hj54 : ∀ (h : zH) (x0 : Nat) (x1 : Nat) (x2 : Int32) (x3 : Nat) (x5 : Nat) (s0 : Int32) (cl sl : Nat), cl + (1 + (n18 * 1 + 1)) ≤ 21 → sl + (1 + (n18 * 1 + 5)) ≤ 30 → j_X1_throwFrom_j54 (j_X1_throwFrom_l18 n18) h ic x0 x1 x2 x3 x5 s0 = some R → zQ (EH h) G X cl sl 54 [some (zrf x0), some (zrf x1), some (.int x2), some (zrf x3), none, some (zrf x5)] [.int s0] := by
        intro h x0 x1 x2 x3 x5 s0 cl sl hc hs hm
        unfold j_X1_throwFrom_j54 at hm
        refine zQ.s (fun h => zs_istore (i := 4) o dX1_throwFrom_54 (by decide) (Or.inr (zc2_ref rfl)) (by simp only [List.set_cons_succ, List.set_cons_zero]; rfl)) ?_
        refine zQ.s (fun h => zs_iload (i := 4) o dX1_throwFrom_56 rfl) ?_
        refine zQ.b (fun h => zs_if_ne (tgt := 65) o dX1_throwFrom_58 (by decide)) (fun c => ?_) (fun c => ?_)
        · have hm := if_e2 hm c
          exact hj65 _ _ _ _ _ _ _ _ _ (by omega) (by omega) hm
        · have hm := if_e1 hm c
          refine zQ.s (fun h => zs_iload_n (i := 2) o dX1_throwFrom_61 rfl rfl) ?_
          refine zQ.b (fun h => zs_if_eq (tgt := 77) o dX1_throwFrom_62 (by decide)) (fun c => ?_) (fun c => ?_)
          · have hm := if_e1 hm c
            refine zQ.fg (zl_s (zl_s (zl_s (zl_s (zl_s (zl_n zl_0)))))) ?_
            exact hj77 _ _ _ _ _ _ _ _ (by omega) (by omega) hm
          · have hm := if_e2 hm c
            exact hj65 _ _ _ _ _ _ _ _ _ (by omega) (by omega) hm
      intro h x0 x1 x2 x3 x4 cl sl hc hs hm
      have hm : j_X1_throwFrom_b18 (j_X1_throwFrom_l18 n18) h ic x0 x1 x2 x3 x4 = some R := hm
      unfold j_X1_throwFrom_b18 at hm
      refine zQ.s (fun h => zs_iload (i := 4) o dX1_throwFrom_18 rfl) ?_
      refine zQ.b (fun h => zs_if_eq (tgt := 80) o dX1_throwFrom_20 (by decide)) (fun c => ?_) (fun c => ?_)
      · have hm := if_e1 hm c
        refine zQ.fg (zl_s (zl_n (zl_n (zl_n (zl_n (zl_n zl_0)))))) ?_
        exact hj80 _ _ _ _ (by omega) (by omega) hm
      · have hm := if_e2 hm c
        refine zQ.s (fun h => zs_aload_n (i := 3) o dX1_throwFrom_23 rfl rfl) ?_
        obtain ⟨g1, hm⟩ := gd_e hm
        obtain ⟨y2, c_y2, hm⟩ := bd_e hm
        refine zh_Fi o g1 ml_X1_164_17 (J_J32_hasNext G _ _ _ _  c_y2) dX1_throwFrom_24 rfl rfl rfl rfl (by omega) (by omega) ?_
        refine zQ.b (fun h => zs_if_eq (tgt := 80) o dX1_throwFrom_29 (by decide)) (fun c => ?_) (fun c => ?_)
        · have hm := if_e1 hm c
          refine zQ.fg (zl_s (zl_n (zl_n (zl_n (zl_n (zl_n zl_0)))))) ?_
          exact hj80 _ _ _ _ (by omega) (by omega) hm
        · have hm := if_e2 hm c
          refine zQ.s (fun h => zs_aload_n (i := 3) o dX1_throwFrom_32 rfl rfl) ?_
          obtain ⟨g3, hm⟩ := gd_e hm
          obtain ⟨y4, c_y4, hm⟩ := bd_e hm
          refine zh_Fr o g3 ml_X1_170_17 (J_J32_next G _ _ _ _  c_y4) dX1_throwFrom_33 rfl rfl rfl rfl (by omega) (by omega) ?_
          obtain ⟨g5, hm⟩ := gd_e hm
          refine zh_cast (c := 8) o q1468 (by decide) (by decide) g5 dX1_throwFrom_38 ?_
          refine zQ.s (fun h => zs_astore (i := 5) o dX1_throwFrom_41 (by decide) (Or.inr rfl) (by simp only [List.set_cons_succ, List.set_cons_zero]; rfl)) ?_
          refine zQ.s (fun h => zs_aload (i := 5) o dX1_throwFrom_43 rfl) ?_
          refine zQ.s (fun h => zs_aload_n (i := 1) o dX1_throwFrom_45 rfl rfl) ?_
          refine zQ.b (fun h => zs_acmp_eq (tgt := 53) o dX1_throwFrom_46 (by decide)) (fun c => ?_) (fun c => ?_)
          · have hm := if_e1 hm c
            refine zQ.s (fun h => zs_iconst (v := 0) o dX1_throwFrom_53 (by decide)) ?_
            refine zQ.fg (zl_s (zl_s (zl_s (zl_s (zl_n (zl_s zl_0)))))) ?_
            exact hj54 _ _ _ _ _ _ _ _ _ (by omega) (by omega) hm
          · have hm := if_e2 hm c
            refine zQ.s (fun h => zs_iconst (v := 1) o dX1_throwFrom_49 (by decide)) ?_
            refine zQ.s (fun h => zs_goto (tgt := 54) o dX1_throwFrom_50 (by decide)) ?_
            refine zQ.fg (zl_s (zl_s (zl_s (zl_s (zl_n (zl_s zl_0)))))) ?_
            exact hj54 _ _ _ _ _ _ _ _ _ (by omega) (by omega) hm
  unfold j_X1_throwFrom at hm
  refine zQ.s (fun h => zs_aload_n (i := 0) o dX1_throwFrom_0 rfl rfl) ?_
  obtain ⟨g1, hm⟩ := gd_e hm
  refine zh_getR o g1 fl_X1_73_1 rfl dX1_throwFrom_1 ?_
  obtain ⟨g2, hm⟩ := gd_e hm
  obtain ⟨y3, c_y3, hm⟩ := bd_e hm
  refine zh_Vv o g2 ml_X1_128 (J_J4_clear G _ _ _  c_y3) dX1_throwFrom_4 rfl rfl rfl rfl (by omega) (by omega) ?_
  refine zQ.s (fun h => zs_aload_n (i := 0) o dX1_throwFrom_7 rfl rfl) ?_
  obtain ⟨g4, hm⟩ := gd_e hm
  refine zh_getR o g4 fl_X1_79_1 rfl dX1_throwFrom_8 ?_
  obtain ⟨g5, hm⟩ := gd_e hm
  obtain ⟨y6, c_y6, hm⟩ := bd_e hm
  refine zh_Vr o g5 ml_X1_331 (J_J6_descendingIterator G _ _ _ _  c_y6) dX1_throwFrom_11 rfl rfl rfl rfl (by omega) (by omega) ?_
  refine zQ.s (fun h => zs_astore_n (i := 3) o dX1_throwFrom_14 rfl (by decide) (Or.inr rfl) (by simp only [List.set_cons_succ, List.set_cons_zero]; rfl)) ?_
  refine zQ.s (fun h => zs_iconst (v := 1) o dX1_throwFrom_15 (by decide)) ?_
  refine zQ.s (fun h => zs_istore (i := 4) o dX1_throwFrom_16 (by decide) (Or.inr (zc2_ref rfl)) (by simp only [List.set_cons_succ, List.set_cons_zero]; rfl)) ?_
  exact hl18 18 (Nat.le_refl _) _ _ _ _ _ _ _ _ (by omega) (by omega) hm

def j_X1_throwAll_j35 (h : zH) (ic : Nat) (x0 : Nat) : Option zH :=
  lt (zT h + 1) fun r1 =>
  lt (nw h 201 29 0) fun S2 =>
  gd (kd S2 x0 1) <|
  gd (wr S2 x0) <|
  lt (pR S2 1 19 x0 r1) fun S5 =>
  some S5
def j_X1_throwAll (h : zH) (p : Nat) (ic : Nat) : Option zH :=
  gd (kd h p 1) <|
  gd (kd h (hR h 1 15 p) 13) <|
  bd (j_J0_isEmptyL h (hR h 1 15 p)) fun y3 =>
  if y3.2 = (0 : Int32) then
    gd (kd y3.1 p 1) <|
    gd (kd y3.1 (hR y3.1 1 15 p) 13) <|
    bd (j_J6_getFirst y3.1 (hR y3.1 1 15 p)) fun y6 =>
    gd (kd y6.1 y6.2 8) <|
    gd (kd y6.1 p 1) <|
    bd (j_X1_throwFrom y6.1 p y6.2 (1 : Int32) ic) fun y9 =>
    j_X1_throwAll_j35 y9 ic p
  else
    gd (kd y3.1 p 1) <|
    gd (kd y3.1 (hR y3.1 1 14 p) 12) <|
    bd (j_J4_clear y3.1 (hR y3.1 1 14 p)) fun y12 =>
    j_X1_throwAll_j35 y12 ic p

set_option maxHeartbeats 40000000 in
theorem J_X1_throwAll (G : zG) (h : zH) (p : Nat) (ic : Nat) (h9 : zH) (z_ih : ("java/lang/Integer$IntegerCache", "high", "I", .int 127) ∈ zGz G) (z_ic : ("java/lang/Integer$IntegerCache", "cache", "[Ljava/lang/Integer;", zrf ic) ∈ zGz G) (hm : j_X1_throwAll h p ic = some h9) : zJv G yX1_throwAll cX1_throwAll 1 none 6 22 30 [zrf p] h h9 := by
  refine zCo.st [some (zrf p)] rfl rfl (by simp only [zarg_r, zarg_i, zarg_l, zarg_0]; rfl) (fun X o f0 hin hw0 => ?_)
  have f := f0.e
  have hin : (Xt X).name = "throwAll" := hin
  refine (?_ : zQ (EH h) G X 0 0 0 [some (zrf p)] []) h rfl hw0
  clear hw0
  generalize hR9 : (h9 : zH) = R at hm
  have hj35 : ∀ (h : zH) (x0 : Nat) (cl sl : Nat), cl + (1) ≤ 22 → sl + (0) ≤ 30 → j_X1_throwAll_j35 h ic x0 = some R → zQ (EH h) G X cl sl 35 [some (zrf x0)] [] := by
    intro h x0 cl sl hc hs hm
    unfold j_X1_throwAll_j35 at hm
    refine zQ.s (fun h => zs_aload_n (i := 0) o dX1_throwAll_35 rfl rfl) ?_
    refine zQ.s (fun h => zs_iconst (v := 0) o dX1_throwAll_36 (by decide)) ?_
    obtain ⟨r1, e_r1, hm⟩ := lt_e hm
    obtain ⟨S2, e_S2, hm⟩ := lt_e hm
    refine zh_newarr (N := 0) (c := 201) o (by decide) rfl q222 (by decide) rfl (by decide) dX1_throwAll_37 (by omega) (by omega) e_S2 ?_
    refine zQ.nmr e_r1 ?_
    obtain ⟨g3, hm⟩ := gd_e hm
    obtain ⟨g4, hm⟩ := gd_e hm
    obtain ⟨S5, e_S5, hm⟩ := lt_e hm
    refine zh_putR o g3 g4 fl_X1_86_1 rfl rfl dX1_throwAll_39 e_S5 ?_
    refine zh_retv o f dX1_throwAll_42 (by omega) (by omega) ((so_e hm).trans hR9.symm)
  unfold j_X1_throwAll at hm
  refine zQ.s (fun h => zs_aload_n (i := 0) o dX1_throwAll_0 rfl rfl) ?_
  obtain ⟨g1, hm⟩ := gd_e hm
  refine zh_getR o g1 fl_X1_79_1 rfl dX1_throwAll_1 ?_
  obtain ⟨g2, hm⟩ := gd_e hm
  obtain ⟨y3, c_y3, hm⟩ := bd_e hm
  refine zh_Ui o g2 ml_X1_346 (J_J0_isEmptyL G _ _ _ _  c_y3) dX1_throwAll_4 rfl rfl rfl rfl (by omega) (by omega) ?_
  refine zQ.b (fun h => zs_if_eq (tgt := 20) o dX1_throwAll_7 (by decide)) (fun c => ?_) (fun c => ?_)
  · have hm := if_e1 hm c
    refine zQ.s (fun h => zs_aload_n (i := 0) o dX1_throwAll_20 rfl rfl) ?_
    refine zQ.s (fun h => zs_aload_n (i := 0) o dX1_throwAll_21 rfl rfl) ?_
    obtain ⟨g4, hm⟩ := gd_e hm
    refine zh_getR o g4 fl_X1_79_1 rfl dX1_throwAll_22 ?_
    obtain ⟨g5, hm⟩ := gd_e hm
    obtain ⟨y6, c_y6, hm⟩ := bd_e hm
    refine zh_Vr o g5 ml_X1_349 (J_J6_getFirst G _ _ _ _  c_y6) dX1_throwAll_25 rfl rfl rfl rfl (by omega) (by omega) ?_
    obtain ⟨g7, hm⟩ := gd_e hm
    refine zh_cast (c := 8) o q1468 (by decide) (by decide) g7 dX1_throwAll_28 ?_
    refine zQ.s (fun h => zs_iconst (v := 1) o dX1_throwAll_31 (by decide)) ?_
    obtain ⟨g8, hm⟩ := gd_e hm
    obtain ⟨y9, c_y9, hm⟩ := bd_e hm
    refine zh_Vv o g8 ml_X1_290 (J_X1_throwFrom G _ _ _ _ _ _ z_ih z_ic c_y9) dX1_throwAll_32 rfl rfl rfl rfl (by omega) (by omega) ?_
    exact hj35 _ _ _ _ (by omega) (by omega) hm
  · have hm := if_e2 hm c
    refine zQ.s (fun h => zs_aload_n (i := 0) o dX1_throwAll_10 rfl rfl) ?_
    obtain ⟨g10, hm⟩ := gd_e hm
    refine zh_getR o g10 fl_X1_73_1 rfl dX1_throwAll_11 ?_
    obtain ⟨g11, hm⟩ := gd_e hm
    obtain ⟨y12, c_y12, hm⟩ := bd_e hm
    refine zh_Vv o g11 ml_X1_128 (J_J4_clear G _ _ _  c_y12) dX1_throwAll_14 rfl rfl rfl rfl (by omega) (by omega) ?_
    refine zQ.s (fun h => zs_goto (tgt := 35) o dX1_throwAll_17 (by decide)) ?_
    exact hj35 _ _ _ _ (by omega) (by omega) hm

def j_X1_firstTooEarly_j64 (h : zH) (x3 : Nat) : Option (zH × Nat) :=
  some (h, x3)
def j_X1_firstTooEarly_j66 (k8 : zH → Nat → Nat → Option (zH × Nat)) (h : zH) (x1 : Nat) (x2 : Nat) : Option (zH × Nat) :=
  k8 h x1 x2
def j_X1_firstTooEarly_b8 (k8 : zH → Nat → Nat → Option (zH × Nat)) (h : zH) (x1 : Nat) (x2 : Nat) : Option (zH × Nat) :=
  gd (kd h x2 16) <|
  bd (j_J28_hasNext h x2) fun y2 =>
  if y2.2 = (0 : Int32) then
    some (y2.1, 0)
  else
    gd (kd y2.1 x2 16) <|
    bd (j_J28_next y2.1 x2) fun y4 =>
    gd (kd y4.1 y4.2 8) <|
    gd (kd y4.1 x1 8) <|
    bd (j_X10_isOlderThan y4.1 x1 y4.2) fun y7 =>
    if y7.2 = (0 : Int32) then
      j_X1_firstTooEarly_j66 k8 y7.1 x1 x2
    else
      gd (kd y7.1 x1 8) <|
      gd (kd y7.1 y4.2 8) <|
      bd (j_X8_hasBegunLoadOf y7.1 y4.2 (hI y7.1 8 17 x1)) fun y10 =>
      if y10.2 = (0 : Int32) then
        j_X1_firstTooEarly_j66 k8 y10.1 x1 x2
      else
        gd (kd y10.1 y4.2 8) <|
        if (hR y10.1 8 21 y4.2) = 0 then
          j_X1_firstTooEarly_j64 y10.1 y4.2
        else
          gd (kd y10.1 y4.2 8) <|
          gd (kd y10.1 (hR y10.1 8 21 y4.2) 8) <|
          bd (j_X10_isOlderThan y10.1 (hR y10.1 8 21 y4.2) x1) fun y14 =>
          if y14.2 = (0 : Int32) then
            j_X1_firstTooEarly_j66 k8 y14.1 x1 x2
          else
            j_X1_firstTooEarly_j64 y14.1 y4.2
def j_X1_firstTooEarly_l8 : Nat → zH → Nat → Nat → Option (zH × Nat)
  | 0 => fun _ _ _ => none
  | n + 1 => j_X1_firstTooEarly_b8 (j_X1_firstTooEarly_l8 n)
def j_X1_firstTooEarly (h : zH) (p : Nat) (a1 : Nat) : Option (zH × Nat) :=
  gd (kd h p 1) <|
  gd (kd h (hR h 1 15 p) 13) <|
  bd (j_J5_iterator h (hR h 1 15 p)) fun y3 =>
  j_X1_firstTooEarly_l8 18 y3.1 a1 y3.2

set_option maxHeartbeats 40000000 in
theorem J_X1_firstTooEarly (G : zG) (h : zH) (p : Nat) (a1 : Nat) (V : Nat) (h9 : zH) (hm : j_X1_firstTooEarly h p a1 = some (h9, V)) : zJr G yX1_firstTooEarly cX1_firstTooEarly 4 (some (.object "Reorderium$Flight")) 5 1 5 [zrf p, zrf a1] h V h9 := by
  refine zCo.st [some (zrf p), some (zrf a1), none, none] rfl rfl (by simp only [zarg_r, zarg_i, zarg_l, zarg_0]; rfl) (fun X o f0 hin hw0 => ?_)
  have f := f0.e
  have hin : (Xt X).name = "firstTooEarly" := hin
  refine (?_ : zQ (EH h) G X 0 0 0 [some (zrf p), some (zrf a1), none, none] []) h rfl hw0
  clear hw0
  generalize hR9 : ((h9, V) : (zH × Nat)) = R at hm
  have hj64 : ∀ (h : zH) (x3 : Nat) (cl sl : Nat), cl + (0) ≤ 1 → sl + (0) ≤ 5 → j_X1_firstTooEarly_j64 h x3 = some R → zQ (EH h) G X cl sl 64 [none, none, none, some (zrf x3)] [] := by
    intro h x3 cl sl hc hs hm
    unfold j_X1_firstTooEarly_j64 at hm
    refine zQ.s (fun h => zs_aload_n (i := 3) o dX1_firstTooEarly_64 rfl rfl) ?_
    refine zh_retr o f dX1_firstTooEarly_65 rfl (by omega) (by omega) ((so_e hm).trans hR9.symm)
  have hl8 : ∀ (n8 : Nat), n8 ≤ 18 → ∀ (h : zH) (x1 : Nat) (x2 : Nat) (cl sl : Nat), cl + (0) ≤ 1 → sl + (0) ≤ 5 → j_X1_firstTooEarly_l8 n8 h x1 x2 = some R → zQ (EH h) G X cl sl 8 [none, some (zrf x1), some (zrf x2), none] [] := by
    intro n8
    induction n8 with
    | zero => intro _ h x1 x2 cl sl _ _ hm; exact no_e hm
    | succ n8 ih =>
      intro hf8
      have ih8 := ih (by omega)
      have hj66 : ∀ (h : zH) (x1 : Nat) (x2 : Nat) (cl sl : Nat), cl + (0) ≤ 1 → sl + (0) ≤ 5 → j_X1_firstTooEarly_j66 (j_X1_firstTooEarly_l8 n8) h x1 x2 = some R → zQ (EH h) G X cl sl 66 [none, some (zrf x1), some (zrf x2), none] [] := by
        intro h x1 x2 cl sl hc hs hm
        unfold j_X1_firstTooEarly_j66 at hm
        refine zQ.s (fun h => zs_goto (tgt := 8) o dX1_firstTooEarly_66 (by decide)) ?_
        exact ih8 _ _ _ _ _ (by omega) (by omega) hm
      intro h x1 x2 cl sl hc hs hm
      have hm : j_X1_firstTooEarly_b8 (j_X1_firstTooEarly_l8 n8) h x1 x2 = some R := hm
      unfold j_X1_firstTooEarly_b8 at hm
      refine zQ.s (fun h => zs_aload_n (i := 2) o dX1_firstTooEarly_8 rfl rfl) ?_
      obtain ⟨g1, hm⟩ := gd_e hm
      obtain ⟨y2, c_y2, hm⟩ := bd_e hm
      refine zh_Fi o g1 ml_X1_164_16 (J_J28_hasNext G _ _ _ _  c_y2) dX1_firstTooEarly_9 rfl rfl rfl rfl (by omega) (by omega) ?_
      refine zQ.b (fun h => zs_if_eq (tgt := 69) o dX1_firstTooEarly_14 (by decide)) (fun c => ?_) (fun c => ?_)
      · have hm := if_e1 hm c
        refine zQ.s (fun h => zs_nul o dX1_firstTooEarly_69) ?_
        refine zh_retr o f dX1_firstTooEarly_70 rfl (by omega) (by omega) ((so_e hm).trans hR9.symm)
      · have hm := if_e2 hm c
        refine zQ.s (fun h => zs_aload_n (i := 2) o dX1_firstTooEarly_17 rfl rfl) ?_
        obtain ⟨g3, hm⟩ := gd_e hm
        obtain ⟨y4, c_y4, hm⟩ := bd_e hm
        refine zh_Fr o g3 ml_X1_170_16 (J_J28_next G _ _ _ _  c_y4) dX1_firstTooEarly_18 rfl rfl rfl rfl (by omega) (by omega) ?_
        obtain ⟨g5, hm⟩ := gd_e hm
        refine zh_cast (c := 8) o q1468 (by decide) (by decide) g5 dX1_firstTooEarly_23 ?_
        refine zQ.s (fun h => zs_astore_n (i := 3) o dX1_firstTooEarly_26 rfl (by decide) (Or.inr (zc2_ref rfl)) (by simp only [List.set_cons_succ, List.set_cons_zero]; rfl)) ?_
        refine zQ.s (fun h => zs_aload_n (i := 1) o dX1_firstTooEarly_27 rfl rfl) ?_
        refine zQ.s (fun h => zs_aload_n (i := 3) o dX1_firstTooEarly_28 rfl rfl) ?_
        obtain ⟨g6, hm⟩ := gd_e hm
        obtain ⟨y7, c_y7, hm⟩ := bd_e hm
        refine zh_D o g6 (J_X10_isOlderThan G _ _ _ _ _ c_y7) dX1_firstTooEarly_29 rfl rfl (by omega) (by omega) ?_
        refine zQ.b (fun h => zs_if_eq (tgt := 66) o dX1_firstTooEarly_32 (by decide)) (fun c => ?_) (fun c => ?_)
        · have hm := if_e1 hm c
          refine zQ.fg (zl_n (zl_s (zl_s (zl_n zl_0)))) ?_
          exact hj66 _ _ _ _ _ (by omega) (by omega) hm
        · have hm := if_e2 hm c
          refine zQ.s (fun h => zs_aload_n (i := 3) o dX1_firstTooEarly_35 rfl rfl) ?_
          refine zQ.s (fun h => zs_aload_n (i := 1) o dX1_firstTooEarly_36 rfl rfl) ?_
          obtain ⟨g8, hm⟩ := gd_e hm
          refine zh_getI o g8 fl_X1_250_8 rfl dX1_firstTooEarly_37 ?_
          obtain ⟨g9, hm⟩ := gd_e hm
          obtain ⟨y10, c_y10, hm⟩ := bd_e hm
          refine zh_Vi o g9 ml_X1_301 (J_X8_hasBegunLoadOf G _ _ _ _ _  c_y10) dX1_firstTooEarly_40 rfl rfl rfl rfl (by omega) (by omega) ?_
          refine zQ.b (fun h => zs_if_eq (tgt := 66) o dX1_firstTooEarly_43 (by decide)) (fun c => ?_) (fun c => ?_)
          · have hm := if_e1 hm c
            refine zQ.fg (zl_n (zl_s (zl_s (zl_n zl_0)))) ?_
            exact hj66 _ _ _ _ _ (by omega) (by omega) hm
          · have hm := if_e2 hm c
            refine zQ.s (fun h => zs_aload_n (i := 3) o dX1_firstTooEarly_46 rfl rfl) ?_
            obtain ⟨g11, hm⟩ := gd_e hm
            refine zh_getR o g11 fl_X1_260_8 rfl dX1_firstTooEarly_47 ?_
            refine zQ.b (fun h => zs_ifnull (tgt := 64) o dX1_firstTooEarly_50 (by decide)) (fun c => ?_) (fun c => ?_)
            · have hm := if_e1 hm c
              refine zQ.fg (zl_n (zl_n (zl_n (zl_s zl_0)))) ?_
              exact hj64 _ _ _ _ (by omega) (by omega) hm
            · have hm := if_e2 hm c
              refine zQ.s (fun h => zs_aload_n (i := 3) o dX1_firstTooEarly_53 rfl rfl) ?_
              obtain ⟨g12, hm⟩ := gd_e hm
              refine zh_getR o g12 fl_X1_260_8 rfl dX1_firstTooEarly_54 ?_
              refine zQ.s (fun h => zs_aload_n (i := 1) o dX1_firstTooEarly_57 rfl rfl) ?_
              obtain ⟨g13, hm⟩ := gd_e hm
              obtain ⟨y14, c_y14, hm⟩ := bd_e hm
              refine zh_D o g13 (J_X10_isOlderThan G _ _ _ _ _ c_y14) dX1_firstTooEarly_58 rfl rfl (by omega) (by omega) ?_
              refine zQ.b (fun h => zs_if_eq (tgt := 66) o dX1_firstTooEarly_61 (by decide)) (fun c => ?_) (fun c => ?_)
              · have hm := if_e1 hm c
                refine zQ.fg (zl_n (zl_s (zl_s (zl_n zl_0)))) ?_
                exact hj66 _ _ _ _ _ (by omega) (by omega) hm
              · have hm := if_e2 hm c
                refine zQ.fg (zl_n (zl_n (zl_n (zl_s zl_0)))) ?_
                exact hj64 _ _ _ _ (by omega) (by omega) hm
  unfold j_X1_firstTooEarly at hm
  refine zQ.s (fun h => zs_aload_n (i := 0) o dX1_firstTooEarly_0 rfl rfl) ?_
  obtain ⟨g1, hm⟩ := gd_e hm
  refine zh_getR o g1 fl_X1_79_1 rfl dX1_firstTooEarly_1 ?_
  obtain ⟨g2, hm⟩ := gd_e hm
  obtain ⟨y3, c_y3, hm⟩ := bd_e hm
  refine zh_Ur o g2 ml_X1_160 (J_J5_iterator G _ _ _ _  c_y3) dX1_firstTooEarly_4 rfl rfl rfl rfl (by omega) (by omega) ?_
  refine zQ.s (fun h => zs_astore_n (i := 2) o dX1_firstTooEarly_7 rfl (by decide) (Or.inr (zc2_ref rfl)) (by simp only [List.set_cons_succ, List.set_cons_zero]; rfl)) ?_
  refine zQ.fg (zl_n (zl_s (zl_s (zl_n zl_0)))) ?_
  exact hl8 18 (Nat.le_refl _) _ _ _ _ _ (by omega) (by omega) hm

def j_X1_endStore_j72 (h : zH) (ic : Nat) : Option zH :=
  some h
def j_X1_endStore (h : zH) (p : Nat) (a1 : Nat) (ic : Nat) : Option zH :=
  gd (kd h a1 8) <|
  bd (j_X1_isAddress h (hI h 8 17 a1)) fun y2 =>
  if y2.2 = (0 : Int32) then
    gd (kd y2.1 a1 8) <|
    gd (wr y2.1 a1) <|
    lt (pI y2.1 8 16 a1 (2 : Int32)) fun S25 =>
    some S25
  else
    gd (kd y2.1 p 1) <|
    bd (j_X1_firstTooEarly y2.1 p a1) fun y4 =>
    if y4.2 = 0 then
      j_X1_endStore_j72 y4.1 ic
    else
      gd (kd y4.1 p 1) <|
      gd (kd y4.1 p 1) <|
      gd (wr y4.1 p) <|
      lt (pI y4.1 1 33 p ((hI y4.1 1 33 p) + (1 : Int32))) fun S8 =>
      gd (kd S8 p 1) <|
      gd (kd S8 y4.2 8) <|
      gd (kd S8 (hR S8 1 22 p) 11) <|
      bd (j_J3_set S8 (hR S8 1 22 p) (irm (hI S8 8 1 y4.2) (16 : Int32))) fun y12 =>
      gd (kd y12 y4.2 8) <|
      gd (kd y12 p 1) <|
      gd (wr y12 p) <|
      lt (pR y12 1 19 p (hR y12 8 4 y4.2)) fun S16 =>
      gd (kd S16 p 1) <|
      bd (j_X1_throwFrom S16 p y4.2 (1 : Int32) ic) fun y18 =>
      gd (kd y18 y4.2 8) <|
      gd (kd y18 p 1) <|
      gd (wr y18 p) <|
      lt (pI y18 1 17 p (hI y18 8 1 y4.2)) fun S22 =>
      j_X1_endStore_j72 S22 ic

set_option maxHeartbeats 40000000 in
theorem J_X1_endStore (G : zG) (h : zH) (p : Nat) (a1 : Nat) (ic : Nat) (h9 : zH) (z_ih : ("java/lang/Integer$IntegerCache", "high", "I", .int 127) ∈ zGz G) (z_ic : ("java/lang/Integer$IntegerCache", "cache", "[Ljava/lang/Integer;", zrf ic) ∈ zGz G) (z_ad : ("java/util/BitSet", "$assertionsDisabled", "Z", .int 1) ∈ zGz G) (hm : j_X1_endStore h p a1 ic = some h9) : zJv G yX1_endStore cX1_endStore 3 none 6 22 35 [zrf p, zrf a1] h h9 := by
  refine zCo.st [some (zrf p), some (zrf a1), none] rfl rfl (by simp only [zarg_r, zarg_i, zarg_l, zarg_0]; rfl) (fun X o f0 hin hw0 => ?_)
  have f := f0.e
  have hin : (Xt X).name = "endStore" := hin
  refine (?_ : zQ (EH h) G X 0 0 0 [some (zrf p), some (zrf a1), none] []) h rfl hw0
  clear hw0
  generalize hR9 : (h9 : zH) = R at hm
  have hj72 : ∀ (h : zH) (cl sl : Nat), cl + (0) ≤ 22 → sl + (0) ≤ 35 → j_X1_endStore_j72 h ic = some R → zQ (EH h) G X cl sl 72 [none, none, none] [] := by
    intro h cl sl hc hs hm
    unfold j_X1_endStore_j72 at hm
    refine zh_retv o f dX1_endStore_72 (by omega) (by omega) ((so_e hm).trans hR9.symm)
  unfold j_X1_endStore at hm
  refine zQ.s (fun h => zs_aload_n (i := 1) o dX1_endStore_0 rfl rfl) ?_
  obtain ⟨g1, hm⟩ := gd_e hm
  refine zh_getI o g1 fl_X1_250_8 rfl dX1_endStore_1 ?_
  obtain ⟨y2, c_y2, hm⟩ := bd_e hm
  refine zh_Si o ml_X1_253 (J_X1_isAddress G _ _ _ _  c_y2) dX1_endStore_4 rfl rfl rfl rfl (by omega) (by omega) ?_
  refine zQ.b (fun h => zs_if_ne (tgt := 16) o dX1_endStore_7 (by decide)) (fun c => ?_) (fun c => ?_)
  · have hm := if_e2 hm c
    refine zQ.s (fun h => zs_aload_n (i := 0) o dX1_endStore_16 rfl rfl) ?_
    refine zQ.s (fun h => zs_aload_n (i := 1) o dX1_endStore_17 rfl rfl) ?_
    obtain ⟨g3, hm⟩ := gd_e hm
    obtain ⟨y4, c_y4, hm⟩ := bd_e hm
    refine zh_Vr o g3 ml_X1_277 (J_X1_firstTooEarly G _ _ _ _ _  c_y4) dX1_endStore_18 rfl rfl rfl rfl (by omega) (by omega) ?_
    refine zQ.s (fun h => zs_astore_n (i := 2) o dX1_endStore_21 rfl (by decide) (Or.inr (zc2_ref rfl)) (by simp only [List.set_cons_succ, List.set_cons_zero]; rfl)) ?_
    refine zQ.s (fun h => zs_aload_n (i := 2) o dX1_endStore_22 rfl rfl) ?_
    refine zQ.b (fun h => zs_ifnull (tgt := 72) o dX1_endStore_23 (by decide)) (fun c => ?_) (fun c => ?_)
    · have hm := if_e1 hm c
      refine zQ.fg (zl_n (zl_n (zl_n zl_0))) ?_
      exact hj72 _ _ _ (by omega) (by omega) hm
    · have hm := if_e2 hm c
      refine zQ.s (fun h => zs_aload_n (i := 0) o dX1_endStore_26 rfl rfl) ?_
      refine zQ.s (fun h => zs_dup o dX1_endStore_27 (by first | rfl | exact zrf_cat _)) ?_
      obtain ⟨g5, hm⟩ := gd_e hm
      refine zh_getI o g5 fl_X1_281_1 rfl dX1_endStore_28 ?_
      refine zQ.s (fun h => zs_iconst (v := 1) o dX1_endStore_31 (by decide)) ?_
      refine zQ.s (fun h => zs_iadd o dX1_endStore_32) ?_
      obtain ⟨g6, hm⟩ := gd_e hm
      obtain ⟨g7, hm⟩ := gd_e hm
      obtain ⟨S8, e_S8, hm⟩ := lt_e hm
      refine zh_putI o g6 g7 fl_X1_281_1 rfl rfl ⟨rfl, rfl⟩ dX1_endStore_33 e_S8 ?_
      refine zQ.s (fun h => zs_aload_n (i := 0) o dX1_endStore_36 rfl rfl) ?_
      obtain ⟨g9, hm⟩ := gd_e hm
      refine zh_getR o g9 fl_X1_95_1 rfl dX1_endStore_37 ?_
      refine zQ.s (fun h => zs_aload_n (i := 2) o dX1_endStore_40 rfl rfl) ?_
      obtain ⟨g10, hm⟩ := gd_e hm
      refine zh_getI o g10 fl_X1_284_8 rfl dX1_endStore_41 ?_
      refine zQ.s (fun h => zs_bipush (v := 16) o dX1_endStore_44 (by decide)) ?_
      refine zQ.s (fun h => zs_irem o dX1_endStore_46 (by decide)) ?_
      obtain ⟨g11, hm⟩ := gd_e hm
      obtain ⟨y12, c_y12, hm⟩ := bd_e hm
      refine zh_Vv o g11 ml_X1_121 (J_J3_set G _ _ _ _ z_ad c_y12) dX1_endStore_47 rfl rfl rfl rfl (by omega) (by omega) ?_
      refine zQ.s (fun h => zs_aload_n (i := 0) o dX1_endStore_50 rfl rfl) ?_
      refine zQ.s (fun h => zs_aload_n (i := 2) o dX1_endStore_51 rfl rfl) ?_
      obtain ⟨g13, hm⟩ := gd_e hm
      refine zh_getR o g13 fl_X1_287_8 rfl dX1_endStore_52 ?_
      obtain ⟨g14, hm⟩ := gd_e hm
      obtain ⟨g15, hm⟩ := gd_e hm
      obtain ⟨S16, e_S16, hm⟩ := lt_e hm
      refine zh_putR o g14 g15 fl_X1_86_1 rfl rfl dX1_endStore_55 e_S16 ?_
      refine zQ.s (fun h => zs_aload_n (i := 0) o dX1_endStore_58 rfl rfl) ?_
      refine zQ.s (fun h => zs_aload_n (i := 2) o dX1_endStore_59 rfl rfl) ?_
      refine zQ.s (fun h => zs_iconst (v := 1) o dX1_endStore_60 (by decide)) ?_
      obtain ⟨g17, hm⟩ := gd_e hm
      obtain ⟨y18, c_y18, hm⟩ := bd_e hm
      refine zh_Vv o g17 ml_X1_290 (J_X1_throwFrom G _ _ _ _ _ _ z_ih z_ic c_y18) dX1_endStore_61 rfl rfl rfl rfl (by omega) (by omega) ?_
      refine zQ.s (fun h => zs_aload_n (i := 0) o dX1_endStore_64 rfl rfl) ?_
      refine zQ.s (fun h => zs_aload_n (i := 2) o dX1_endStore_65 rfl rfl) ?_
      obtain ⟨g19, hm⟩ := gd_e hm
      refine zh_getI o g19 fl_X1_284_8 rfl dX1_endStore_66 ?_
      obtain ⟨g20, hm⟩ := gd_e hm
      obtain ⟨g21, hm⟩ := gd_e hm
      obtain ⟨S22, e_S22, hm⟩ := lt_e hm
      refine zh_putI o g20 g21 fl_X1_294_1 rfl rfl ⟨rfl, rfl⟩ dX1_endStore_69 e_S22 ?_
      refine zQ.fg (zl_n (zl_n (zl_n zl_0))) ?_
      exact hj72 _ _ _ (by omega) (by omega) hm
  · have hm := if_e1 hm c
    refine zQ.s (fun h => zs_aload_n (i := 1) o dX1_endStore_10 rfl rfl) ?_
    refine zQ.s (fun h => zs_iconst (v := 2) o dX1_endStore_11 (by decide)) ?_
    obtain ⟨g23, hm⟩ := gd_e hm
    obtain ⟨g24, hm⟩ := gd_e hm
    obtain ⟨S25, e_S25, hm⟩ := lt_e hm
    refine zh_putI o g23 g24 fl_X1_257_8 rfl rfl ⟨rfl, rfl⟩ dX1_endStore_12 e_S25 ?_
    refine zh_retv o f dX1_endStore_15 (by omega) (by omega) ((so_e hm).trans hR9.symm)

def j_X1_endGoing_j121 (h : zH) (ic : Nat) : Option zH :=
  some h
def j_X1_endGoing_j71 (h : zH) (ic : Nat) (x0 : Nat) (x1 : Nat) : Option zH :=
  gd (kd h x1 8) <|
  if (hI h 8 16 x1) = (0 : Int32) then
    gd (kd h x1 8) <|
    gd (kd h x1 8) <|
    if (hI h 8 19 x1) = (hI h 8 6 x1) then
      j_X1_endGoing_j121 h ic
    else
      gd (kd h x0 1) <|
      gd (kd h x0 1) <|
      gd (wr h x0) <|
      lt (pI h 1 32 x0 ((hI h 1 32 x0) + (1 : Int32))) fun S7 =>
      gd (kd S7 x1 8) <|
      gd (kd S7 x0 1) <|
      gd (wr S7 x0) <|
      lt (pR S7 1 19 x0 (hR S7 8 5 x1)) fun S11 =>
      gd (kd S11 x0 1) <|
      bd (j_X1_throwFrom S11 x0 x1 (0 : Int32) ic) fun y13 =>
      gd (kd y13 x1 8) <|
      gd (kd y13 x0 1) <|
      gd (wr y13 x0) <|
      lt (pI y13 1 17 x0 (hI y13 8 19 x1)) fun S17 =>
      j_X1_endGoing_j121 S17 ic
  else
    j_X1_endGoing_j121 h ic
def j_X1_endGoing_j35 (h : zH) (ic : Nat) (x0 : Nat) (x1 : Nat) (x3 : Int32) (s1 : Int32) (s0 : Nat) : Option zH :=
  gd (kd h s0 8) <|
  gd (wr h s0) <|
  lt (pI h 8 16 s0 s1) fun S3 =>
  gd (kd S3 x1 8) <|
  gd (wr S3 x1) <|
  lt (pI S3 8 19 x1 x3) fun S6 =>
  j_X1_endGoing_j71 S6 ic x0 x1
def j_X1_endGoing (h : zH) (p : Nat) (a1 : Nat) (ic : Nat) : Option zH :=
  gd (kd h a1 8) <|
  lt (hR h 8 0 a1) fun r2 =>
  gd (kd h p 1) <|
  gd (kd h a1 8) <|
  gd (kd h (hR h 1 9 p) 201) <|
  gd (inb (hI h 8 10 a1) (zN h (hR h 1 9 p))) <|
  lt (hI h 201 (ix (hI h 8 10 a1)) (hR h 1 9 p)) fun v7 =>
  gd (kd h r2 4) <|
  bd (j_X4_isIndirect h r2) fun y9 =>
  if y9.2 = (0 : Int32) then
    gd (kd y9.1 p 1) <|
    gd (kd y9.1 a1 8) <|
    gd (kd y9.1 (hR y9.1 1 9 p) 201) <|
    gd (inb (hI y9.1 8 11 a1) (zN y9.1 (hR y9.1 1 9 p))) <|
    gd (kd y9.1 r2 4) <|
    bd (j_X4_isFulfilled y9.1 r2 v7 (hI y9.1 201 (ix (hI y9.1 8 11 a1)) (hR y9.1 1 9 p))) fun y15 =>
    if y15.2 = (0 : Int32) then
      j_X1_endGoing_j71 y15.1 ic p a1
    else
      gd (kd y15.1 r2 4) <|
      gd (kd y15.1 a1 8) <|
      gd (wr y15.1 a1) <|
      lt (pI y15.1 8 19 a1 (hI y15.1 4 4 r2)) fun S19 =>
      j_X1_endGoing_j71 S19 ic p a1
  else
    bd (j_X1_isPlace y9.1 v7) fun y20 =>
    if y20.2 = (0 : Int32) then
      j_X1_endGoing_j35 y20.1 ic p a1 v7 (3 : Int32) a1
    else
      j_X1_endGoing_j35 y20.1 ic p a1 v7 (0 : Int32) a1

set_option maxHeartbeats 40000000 in
theorem J_X1_endGoing (G : zG) (h : zH) (p : Nat) (a1 : Nat) (ic : Nat) (h9 : zH) (z_ih : ("java/lang/Integer$IntegerCache", "high", "I", .int 127) ∈ zGz G) (z_ic : ("java/lang/Integer$IntegerCache", "cache", "[Ljava/lang/Integer;", zrf ic) ∈ zGz G) (hm : j_X1_endGoing h p a1 ic = some h9) : zJv G yX1_endGoing cX1_endGoing 4 none 6 21 30 [zrf p, zrf a1] h h9 := by
  refine zCo.st [some (zrf p), some (zrf a1), none, none] rfl rfl (by simp only [zarg_r, zarg_i, zarg_l, zarg_0]; rfl) (fun X o f0 hin hw0 => ?_)
  have f := f0.e
  have hin : (Xt X).name = "endGoing" := hin
  refine (?_ : zQ (EH h) G X 0 0 0 [some (zrf p), some (zrf a1), none, none] []) h rfl hw0
  clear hw0
  generalize hR9 : (h9 : zH) = R at hm
  have hj121 : ∀ (h : zH) (cl sl : Nat), cl + (0) ≤ 21 → sl + (0) ≤ 30 → j_X1_endGoing_j121 h ic = some R → zQ (EH h) G X cl sl 121 [none, none, none, none] [] := by
    intro h cl sl hc hs hm
    unfold j_X1_endGoing_j121 at hm
    refine zh_retv o f dX1_endGoing_121 (by omega) (by omega) ((so_e hm).trans hR9.symm)
  have hj71 : ∀ (h : zH) (x0 : Nat) (x1 : Nat) (cl sl : Nat), cl + (21) ≤ 21 → sl + (30) ≤ 30 → j_X1_endGoing_j71 h ic x0 x1 = some R → zQ (EH h) G X cl sl 71 [some (zrf x0), some (zrf x1), none, none] [] := by
    intro h x0 x1 cl sl hc hs hm
    unfold j_X1_endGoing_j71 at hm
    refine zQ.s (fun h => zs_aload_n (i := 1) o dX1_endGoing_71 rfl rfl) ?_
    obtain ⟨g1, hm⟩ := gd_e hm
    refine zh_getI o g1 fl_X1_257_8 rfl dX1_endGoing_72 ?_
    refine zQ.b (fun h => zs_if_ne (tgt := 121) o dX1_endGoing_75 (by decide)) (fun c => ?_) (fun c => ?_)
    · have hm := if_e2 hm c
      refine zQ.fg (zl_n (zl_n (zl_n (zl_n zl_0)))) ?_
      exact hj121 _ _ _ (by omega) (by omega) hm
    · have hm := if_e1 hm c
      refine zQ.s (fun h => zs_aload_n (i := 1) o dX1_endGoing_78 rfl rfl) ?_
      obtain ⟨g2, hm⟩ := gd_e hm
      refine zh_getI o g2 fl_X1_310_8 rfl dX1_endGoing_79 ?_
      refine zQ.s (fun h => zs_aload_n (i := 1) o dX1_endGoing_82 rfl rfl) ?_
      obtain ⟨g3, hm⟩ := gd_e hm
      refine zh_getI o g3 fl_X1_319_8 rfl dX1_endGoing_83 ?_
      refine zQ.b (fun h => zs_icmp_eq (tgt := 121) o dX1_endGoing_86 (by decide)) (fun c => ?_) (fun c => ?_)
      · have hm := if_e1 hm c
        refine zQ.fg (zl_n (zl_n (zl_n (zl_n zl_0)))) ?_
        exact hj121 _ _ _ (by omega) (by omega) hm
      · have hm := if_e2 hm c
        refine zQ.s (fun h => zs_aload_n (i := 0) o dX1_endGoing_89 rfl rfl) ?_
        refine zQ.s (fun h => zs_dup o dX1_endGoing_90 (by first | rfl | exact zrf_cat _)) ?_
        obtain ⟨g4, hm⟩ := gd_e hm
        refine zh_getI o g4 fl_X1_322_1 rfl dX1_endGoing_91 ?_
        refine zQ.s (fun h => zs_iconst (v := 1) o dX1_endGoing_94 (by decide)) ?_
        refine zQ.s (fun h => zs_iadd o dX1_endGoing_95) ?_
        obtain ⟨g5, hm⟩ := gd_e hm
        obtain ⟨g6, hm⟩ := gd_e hm
        obtain ⟨S7, e_S7, hm⟩ := lt_e hm
        refine zh_putI o g5 g6 fl_X1_322_1 rfl rfl ⟨rfl, rfl⟩ dX1_endGoing_96 e_S7 ?_
        refine zQ.s (fun h => zs_aload_n (i := 0) o dX1_endGoing_99 rfl rfl) ?_
        refine zQ.s (fun h => zs_aload_n (i := 1) o dX1_endGoing_100 rfl rfl) ?_
        obtain ⟨g8, hm⟩ := gd_e hm
        refine zh_getR o g8 fl_X1_325_8 rfl dX1_endGoing_101 ?_
        obtain ⟨g9, hm⟩ := gd_e hm
        obtain ⟨g10, hm⟩ := gd_e hm
        obtain ⟨S11, e_S11, hm⟩ := lt_e hm
        refine zh_putR o g9 g10 fl_X1_86_1 rfl rfl dX1_endGoing_104 e_S11 ?_
        refine zQ.s (fun h => zs_aload_n (i := 0) o dX1_endGoing_107 rfl rfl) ?_
        refine zQ.s (fun h => zs_aload_n (i := 1) o dX1_endGoing_108 rfl rfl) ?_
        refine zQ.s (fun h => zs_iconst (v := 0) o dX1_endGoing_109 (by decide)) ?_
        obtain ⟨g12, hm⟩ := gd_e hm
        obtain ⟨y13, c_y13, hm⟩ := bd_e hm
        refine zh_Vv o g12 ml_X1_290 (J_X1_throwFrom G _ _ _ _ _ _ z_ih z_ic c_y13) dX1_endGoing_110 rfl rfl rfl rfl (by omega) (by omega) ?_
        refine zQ.s (fun h => zs_aload_n (i := 0) o dX1_endGoing_113 rfl rfl) ?_
        refine zQ.s (fun h => zs_aload_n (i := 1) o dX1_endGoing_114 rfl rfl) ?_
        obtain ⟨g14, hm⟩ := gd_e hm
        refine zh_getI o g14 fl_X1_310_8 rfl dX1_endGoing_115 ?_
        obtain ⟨g15, hm⟩ := gd_e hm
        obtain ⟨g16, hm⟩ := gd_e hm
        obtain ⟨S17, e_S17, hm⟩ := lt_e hm
        refine zh_putI o g15 g16 fl_X1_294_1 rfl rfl ⟨rfl, rfl⟩ dX1_endGoing_118 e_S17 ?_
        refine zQ.fg (zl_n (zl_n (zl_n (zl_n zl_0)))) ?_
        exact hj121 _ _ _ (by omega) (by omega) hm
  have hj35 : ∀ (h : zH) (x0 : Nat) (x1 : Nat) (x3 : Int32) (s1 : Int32) (s0 : Nat) (cl sl : Nat), cl + (21) ≤ 21 → sl + (30) ≤ 30 → j_X1_endGoing_j35 h ic x0 x1 x3 s1 s0 = some R → zQ (EH h) G X cl sl 35 [some (zrf x0), some (zrf x1), none, some (.int x3)] [.int s1, zrf s0] := by
    intro h x0 x1 x3 s1 s0 cl sl hc hs hm
    unfold j_X1_endGoing_j35 at hm
    obtain ⟨g1, hm⟩ := gd_e hm
    obtain ⟨g2, hm⟩ := gd_e hm
    obtain ⟨S3, e_S3, hm⟩ := lt_e hm
    refine zh_putI o g1 g2 fl_X1_257_8 rfl rfl ⟨rfl, rfl⟩ dX1_endGoing_35 e_S3 ?_
    refine zQ.s (fun h => zs_aload_n (i := 1) o dX1_endGoing_38 rfl rfl) ?_
    refine zQ.s (fun h => zs_iload_n (i := 3) o dX1_endGoing_39 rfl rfl) ?_
    obtain ⟨g4, hm⟩ := gd_e hm
    obtain ⟨g5, hm⟩ := gd_e hm
    obtain ⟨S6, e_S6, hm⟩ := lt_e hm
    refine zh_putI o g4 g5 fl_X1_310_8 rfl rfl ⟨rfl, rfl⟩ dX1_endGoing_40 e_S6 ?_
    refine zQ.s (fun h => zs_goto (tgt := 71) o dX1_endGoing_43 (by decide)) ?_
    refine zQ.fg (zl_s (zl_s (zl_n (zl_n zl_0)))) ?_
    exact hj71 _ _ _ _ _ (by omega) (by omega) hm
  unfold j_X1_endGoing at hm
  refine zQ.s (fun h => zs_aload_n (i := 1) o dX1_endGoing_0 rfl rfl) ?_
  obtain ⟨g1, hm⟩ := gd_e hm
  refine zh_getR o g1 fl_X1_220_8 rfl dX1_endGoing_1 ?_
  obtain ⟨r2, e_r2, hm⟩ := lt_e hm
  refine zQ.nmr e_r2 ?_
  refine zQ.s (fun h => zs_astore_n (i := 2) o dX1_endGoing_4 rfl (by decide) (Or.inr (zc2_ref rfl)) (by simp only [List.set_cons_succ, List.set_cons_zero]; rfl)) ?_
  refine zQ.s (fun h => zs_aload_n (i := 0) o dX1_endGoing_5 rfl rfl) ?_
  obtain ⟨g3, hm⟩ := gd_e hm
  refine zh_getR o g3 fl_X1_50_1 rfl dX1_endGoing_6 ?_
  refine zQ.s (fun h => zs_aload_n (i := 1) o dX1_endGoing_9 rfl rfl) ?_
  obtain ⟨g4, hm⟩ := gd_e hm
  refine zh_getI o g4 fl_X1_270_8 rfl dX1_endGoing_10 ?_
  obtain ⟨g5, hm⟩ := gd_e hm
  obtain ⟨g6, hm⟩ := gd_e hm
  refine zh_iald o g5 g6 dX1_endGoing_13 ?_
  obtain ⟨v7, e_v7, hm⟩ := lt_e hm
  refine zQ.nmi e_v7 ?_
  refine zQ.s (fun h => zs_istore_n (i := 3) o dX1_endGoing_14 rfl (by decide) (Or.inr (zc2_ref rfl)) (by simp only [List.set_cons_succ, List.set_cons_zero]; rfl)) ?_
  refine zQ.s (fun h => zs_aload_n (i := 2) o dX1_endGoing_15 rfl rfl) ?_
  obtain ⟨g8, hm⟩ := gd_e hm
  obtain ⟨y9, c_y9, hm⟩ := bd_e hm
  refine zh_Vi o g8 ml_X1_304 (J_X4_isIndirect G _ _ _ _  c_y9) dX1_endGoing_16 rfl rfl rfl rfl (by omega) (by omega) ?_
  refine zQ.b (fun h => zs_if_eq (tgt := 46) o dX1_endGoing_19 (by decide)) (fun c => ?_) (fun c => ?_)
  · have hm := if_e1 hm c
    refine zQ.s (fun h => zs_aload_n (i := 2) o dX1_endGoing_46 rfl rfl) ?_
    refine zQ.s (fun h => zs_iload_n (i := 3) o dX1_endGoing_47 rfl rfl) ?_
    refine zQ.s (fun h => zs_aload_n (i := 0) o dX1_endGoing_48 rfl rfl) ?_
    obtain ⟨g10, hm⟩ := gd_e hm
    refine zh_getR o g10 fl_X1_50_1 rfl dX1_endGoing_49 ?_
    refine zQ.s (fun h => zs_aload_n (i := 1) o dX1_endGoing_52 rfl rfl) ?_
    obtain ⟨g11, hm⟩ := gd_e hm
    refine zh_getI o g11 fl_X1_244_8 rfl dX1_endGoing_53 ?_
    obtain ⟨g12, hm⟩ := gd_e hm
    obtain ⟨g13, hm⟩ := gd_e hm
    refine zh_iald o g12 g13 dX1_endGoing_56 ?_
    obtain ⟨g14, hm⟩ := gd_e hm
    obtain ⟨y15, c_y15, hm⟩ := bd_e hm
    refine zh_Vi o g14 ml_X1_312 (J_X4_isFulfilled G _ _ _ _ _ _  c_y15) dX1_endGoing_57 rfl rfl rfl rfl (by omega) (by omega) ?_
    refine zQ.b (fun h => zs_if_eq (tgt := 71) o dX1_endGoing_60 (by decide)) (fun c => ?_) (fun c => ?_)
    · have hm := if_e1 hm c
      refine zQ.fg (zl_s (zl_s (zl_n (zl_n zl_0)))) ?_
      exact hj71 _ _ _ _ _ (by omega) (by omega) hm
    · have hm := if_e2 hm c
      refine zQ.s (fun h => zs_aload_n (i := 1) o dX1_endGoing_63 rfl rfl) ?_
      refine zQ.s (fun h => zs_aload_n (i := 2) o dX1_endGoing_64 rfl rfl) ?_
      obtain ⟨g16, hm⟩ := gd_e hm
      refine zh_getI o g16 fl_X1_316_4 rfl dX1_endGoing_65 ?_
      obtain ⟨g17, hm⟩ := gd_e hm
      obtain ⟨g18, hm⟩ := gd_e hm
      obtain ⟨S19, e_S19, hm⟩ := lt_e hm
      refine zh_putI o g17 g18 fl_X1_310_8 rfl rfl ⟨rfl, rfl⟩ dX1_endGoing_68 e_S19 ?_
      refine zQ.fg (zl_s (zl_s (zl_n (zl_n zl_0)))) ?_
      exact hj71 _ _ _ _ _ (by omega) (by omega) hm
  · have hm := if_e2 hm c
    refine zQ.s (fun h => zs_aload_n (i := 1) o dX1_endGoing_22 rfl rfl) ?_
    refine zQ.s (fun h => zs_iload_n (i := 3) o dX1_endGoing_23 rfl rfl) ?_
    obtain ⟨y20, c_y20, hm⟩ := bd_e hm
    refine zh_Si o ml_X1_307 (J_X1_isPlace G _ _ _ _  c_y20) dX1_endGoing_24 rfl rfl rfl rfl (by omega) (by omega) ?_
    refine zQ.b (fun h => zs_if_eq (tgt := 34) o dX1_endGoing_27 (by decide)) (fun c => ?_) (fun c => ?_)
    · have hm := if_e1 hm c
      refine zQ.s (fun h => zs_iconst (v := 3) o dX1_endGoing_34 (by decide)) ?_
      refine zQ.fg (zl_s (zl_s (zl_n (zl_s zl_0)))) ?_
      exact hj35 _ _ _ _ _ _ _ _ (by omega) (by omega) hm
    · have hm := if_e2 hm c
      refine zQ.s (fun h => zs_iconst (v := 0) o dX1_endGoing_30 (by decide)) ?_
      refine zQ.s (fun h => zs_goto (tgt := 35) o dX1_endGoing_31 (by decide)) ?_
      refine zQ.fg (zl_s (zl_s (zl_n (zl_s zl_0)))) ?_
      exact hj35 _ _ _ _ _ _ _ _ (by omega) (by omega) hm

def j_X1_findResult_j107 (h : zH) : Option zH :=
  some h
def j_X1_findResult_j40 (h : zH) (x0 : Nat) (x1 : Nat) (s1 : Int32) (s0 : Nat) : Option zH :=
  gd (kd h s0 8) <|
  gd (wr h s0) <|
  lt (pI h 8 16 s0 s1) fun S3 =>
  gd (kd S3 x1 8) <|
  if (hR S3 8 21 x1) = 0 then
    gd (kd S3 x1 8) <|
    if (hI S3 8 16 x1) = (0 : Int32) then
      gd (kd S3 x0 1) <|
      gd (kd S3 x1 8) <|
      gd (kd S3 (hR S3 1 3 x0) 201) <|
      gd (inb (hI S3 8 17 x1) (zN S3 (hR S3 1 3 x0))) <|
      gd (kd S3 x1 8) <|
      gd (wr S3 x1) <|
      lt (pI S3 8 18 x1 (hI S3 201 (ix (hI S3 8 17 x1)) (hR S3 1 3 x0))) fun S12 =>
      j_X1_findResult_j107 S12
    else
      j_X1_findResult_j107 S3
  else
    j_X1_findResult_j107 S3
def j_X1_findResult (h : zH) (p : Nat) (a1 : Nat) : Option zH :=
  gd (kd h a1 8) <|
  lt (hR h 8 0 a1) fun r2 =>
  gd (kd h p 1) <|
  gd (kd h a1 8) <|
  gd (kd h (hR h 1 9 p) 201) <|
  gd (inb (hI h 8 11 a1) (zN h (hR h 1 9 p))) <|
  lt (hI h 201 (ix (hI h 8 11 a1)) (hR h 1 9 p)) fun v7 =>
  gd (kd h r2 4) <|
  if (hI h 4 0 r2) = (9 : Int32) then
    gd (kd h a1 8) <|
    bd (j_X1_isAddress h (hI h 8 17 a1)) fun y24 =>
    if y24.2 = (0 : Int32) then
      j_X1_findResult_j40 y24.1 p a1 (2 : Int32) a1
    else
      j_X1_findResult_j40 y24.1 p a1 (0 : Int32) a1
  else
    gd (kd h r2 4) <|
    bd (j_X4_traps h r2 v7) fun y10 =>
    if y10.2 = (0 : Int32) then
      gd (kd y10.1 p 1) <|
      gd (kd y10.1 a1 8) <|
      gd (kd y10.1 (hR y10.1 1 9 p) 201) <|
      gd (inb (hI y10.1 8 10 a1) (zN y10.1 (hR y10.1 1 9 p))) <|
      gd (kd y10.1 r2 4) <|
      bd (j_X4_reckon y10.1 r2 (hI y10.1 201 (ix (hI y10.1 8 10 a1)) (hR y10.1 1 9 p)) v7) fun y16 =>
      gd (kd y16.1 a1 8) <|
      gd (wr y16.1 a1) <|
      lt (pI y16.1 8 18 a1 y16.2) fun S19 =>
      j_X1_findResult_j107 S19
    else
      gd (kd y10.1 a1 8) <|
      gd (wr y10.1 a1) <|
      lt (pI y10.1 8 16 a1 (1 : Int32)) fun S22 =>
      j_X1_findResult_j107 S22

set_option maxHeartbeats 40000000 in
theorem J_X1_findResult (G : zG) (h : zH) (p : Nat) (a1 : Nat) (h9 : zH) (hm : j_X1_findResult h p a1 = some h9) : zJv G yX1_findResult cX1_findResult 4 none 2 0 0 [zrf p, zrf a1] h h9 := by
  refine zCo.st [some (zrf p), some (zrf a1), none, none] rfl rfl (by simp only [zarg_r, zarg_i, zarg_l, zarg_0]; rfl) (fun X o f0 hin hw0 => ?_)
  have f := f0.e
  have hin : (Xt X).name = "findResult" := hin
  refine (?_ : zQ (EH h) G X 0 0 0 [some (zrf p), some (zrf a1), none, none] []) h rfl hw0
  clear hw0
  generalize hR9 : (h9 : zH) = R at hm
  have hj107 : ∀ (h : zH) (cl sl : Nat), cl + (0) ≤ 0 → sl + (0) ≤ 0 → j_X1_findResult_j107 h = some R → zQ (EH h) G X cl sl 107 [none, none, none, none] [] := by
    intro h cl sl hc hs hm
    unfold j_X1_findResult_j107 at hm
    refine zh_retv o f dX1_findResult_107 (by omega) (by omega) ((so_e hm).trans hR9.symm)
  have hj40 : ∀ (h : zH) (x0 : Nat) (x1 : Nat) (s1 : Int32) (s0 : Nat) (cl sl : Nat), cl + (0) ≤ 0 → sl + (0) ≤ 0 → j_X1_findResult_j40 h x0 x1 s1 s0 = some R → zQ (EH h) G X cl sl 40 [some (zrf x0), some (zrf x1), none, none] [.int s1, zrf s0] := by
    intro h x0 x1 s1 s0 cl sl hc hs hm
    unfold j_X1_findResult_j40 at hm
    obtain ⟨g1, hm⟩ := gd_e hm
    obtain ⟨g2, hm⟩ := gd_e hm
    obtain ⟨S3, e_S3, hm⟩ := lt_e hm
    refine zh_putI o g1 g2 fl_X1_257_8 rfl rfl ⟨rfl, rfl⟩ dX1_findResult_40 e_S3 ?_
    refine zQ.s (fun h => zs_aload_n (i := 1) o dX1_findResult_43 rfl rfl) ?_
    obtain ⟨g4, hm⟩ := gd_e hm
    refine zh_getR o g4 fl_X1_260_8 rfl dX1_findResult_44 ?_
    refine zQ.b (fun h => zs_ifnonnull (tgt := 107) o dX1_findResult_47 (by decide)) (fun c => ?_) (fun c => ?_)
    · have hm := if_e2 hm c
      refine zQ.fg (zl_n (zl_n (zl_n (zl_n zl_0)))) ?_
      exact hj107 _ _ _ (by omega) (by omega) hm
    · have hm := if_e1 hm c
      refine zQ.s (fun h => zs_aload_n (i := 1) o dX1_findResult_50 rfl rfl) ?_
      obtain ⟨g5, hm⟩ := gd_e hm
      refine zh_getI o g5 fl_X1_257_8 rfl dX1_findResult_51 ?_
      refine zQ.b (fun h => zs_if_ne (tgt := 107) o dX1_findResult_54 (by decide)) (fun c => ?_) (fun c => ?_)
      · have hm := if_e2 hm c
        refine zQ.fg (zl_n (zl_n (zl_n (zl_n zl_0)))) ?_
        exact hj107 _ _ _ (by omega) (by omega) hm
      · have hm := if_e1 hm c
        refine zQ.s (fun h => zs_aload_n (i := 1) o dX1_findResult_57 rfl rfl) ?_
        refine zQ.s (fun h => zs_aload_n (i := 0) o dX1_findResult_58 rfl rfl) ?_
        obtain ⟨g6, hm⟩ := gd_e hm
        refine zh_getR o g6 fl_X1_27_1 rfl dX1_findResult_59 ?_
        refine zQ.s (fun h => zs_aload_n (i := 1) o dX1_findResult_62 rfl rfl) ?_
        obtain ⟨g7, hm⟩ := gd_e hm
        refine zh_getI o g7 fl_X1_250_8 rfl dX1_findResult_63 ?_
        obtain ⟨g8, hm⟩ := gd_e hm
        obtain ⟨g9, hm⟩ := gd_e hm
        refine zh_iald o g8 g9 dX1_findResult_66 ?_
        obtain ⟨g10, hm⟩ := gd_e hm
        obtain ⟨g11, hm⟩ := gd_e hm
        obtain ⟨S12, e_S12, hm⟩ := lt_e hm
        refine zh_putI o g10 g11 fl_X1_264_8 rfl rfl ⟨rfl, rfl⟩ dX1_findResult_67 e_S12 ?_
        refine zQ.s (fun h => zs_goto (tgt := 107) o dX1_findResult_70 (by decide)) ?_
        refine zQ.fg (zl_n (zl_n (zl_n (zl_n zl_0)))) ?_
        exact hj107 _ _ _ (by omega) (by omega) hm
  unfold j_X1_findResult at hm
  refine zQ.s (fun h => zs_aload_n (i := 1) o dX1_findResult_0 rfl rfl) ?_
  obtain ⟨g1, hm⟩ := gd_e hm
  refine zh_getR o g1 fl_X1_220_8 rfl dX1_findResult_1 ?_
  obtain ⟨r2, e_r2, hm⟩ := lt_e hm
  refine zQ.nmr e_r2 ?_
  refine zQ.s (fun h => zs_astore_n (i := 2) o dX1_findResult_4 rfl (by decide) (Or.inr (zc2_ref rfl)) (by simp only [List.set_cons_succ, List.set_cons_zero]; rfl)) ?_
  refine zQ.s (fun h => zs_aload_n (i := 0) o dX1_findResult_5 rfl rfl) ?_
  obtain ⟨g3, hm⟩ := gd_e hm
  refine zh_getR o g3 fl_X1_50_1 rfl dX1_findResult_6 ?_
  refine zQ.s (fun h => zs_aload_n (i := 1) o dX1_findResult_9 rfl rfl) ?_
  obtain ⟨g4, hm⟩ := gd_e hm
  refine zh_getI o g4 fl_X1_244_8 rfl dX1_findResult_10 ?_
  obtain ⟨g5, hm⟩ := gd_e hm
  obtain ⟨g6, hm⟩ := gd_e hm
  refine zh_iald o g5 g6 dX1_findResult_13 ?_
  obtain ⟨v7, e_v7, hm⟩ := lt_e hm
  refine zQ.nmi e_v7 ?_
  refine zQ.s (fun h => zs_istore_n (i := 3) o dX1_findResult_14 rfl (by decide) (Or.inr (zc2_ref rfl)) (by simp only [List.set_cons_succ, List.set_cons_zero]; rfl)) ?_
  refine zQ.s (fun h => zs_aload_n (i := 2) o dX1_findResult_15 rfl rfl) ?_
  obtain ⟨g8, hm⟩ := gd_e hm
  refine zh_getI o g8 fl_X1_247_4 rfl dX1_findResult_16 ?_
  refine zQ.s (fun h => zs_bipush (v := 9) o dX1_findResult_19 (by decide)) ?_
  refine zQ.b (fun h => zs_icmp_ne (tgt := 73) o dX1_findResult_21 (by decide)) (fun c => ?_) (fun c => ?_)
  · have hm := if_e2 hm c
    refine zQ.s (fun h => zs_aload_n (i := 2) o dX1_findResult_73 rfl rfl) ?_
    refine zQ.s (fun h => zs_iload_n (i := 3) o dX1_findResult_74 rfl rfl) ?_
    obtain ⟨g9, hm⟩ := gd_e hm
    obtain ⟨y10, c_y10, hm⟩ := bd_e hm
    refine zh_Vi o g9 ml_X1_267 (J_X4_traps G _ _ _ _ _  c_y10) dX1_findResult_75 rfl rfl rfl rfl (by omega) (by omega) ?_
    refine zQ.b (fun h => zs_if_eq (tgt := 89) o dX1_findResult_78 (by decide)) (fun c => ?_) (fun c => ?_)
    · have hm := if_e1 hm c
      refine zQ.s (fun h => zs_aload_n (i := 1) o dX1_findResult_89 rfl rfl) ?_
      refine zQ.s (fun h => zs_aload_n (i := 2) o dX1_findResult_90 rfl rfl) ?_
      refine zQ.s (fun h => zs_aload_n (i := 0) o dX1_findResult_91 rfl rfl) ?_
      obtain ⟨g11, hm⟩ := gd_e hm
      refine zh_getR o g11 fl_X1_50_1 rfl dX1_findResult_92 ?_
      refine zQ.s (fun h => zs_aload_n (i := 1) o dX1_findResult_95 rfl rfl) ?_
      obtain ⟨g12, hm⟩ := gd_e hm
      refine zh_getI o g12 fl_X1_270_8 rfl dX1_findResult_96 ?_
      obtain ⟨g13, hm⟩ := gd_e hm
      obtain ⟨g14, hm⟩ := gd_e hm
      refine zh_iald o g13 g14 dX1_findResult_99 ?_
      refine zQ.s (fun h => zs_iload_n (i := 3) o dX1_findResult_100 rfl rfl) ?_
      obtain ⟨g15, hm⟩ := gd_e hm
      obtain ⟨y16, c_y16, hm⟩ := bd_e hm
      refine zh_Vi o g15 ml_X1_273 (J_X4_reckon G _ _ _ _ _ _  c_y16) dX1_findResult_101 rfl rfl rfl rfl (by omega) (by omega) ?_
      obtain ⟨g17, hm⟩ := gd_e hm
      obtain ⟨g18, hm⟩ := gd_e hm
      obtain ⟨S19, e_S19, hm⟩ := lt_e hm
      refine zh_putI o g17 g18 fl_X1_264_8 rfl rfl ⟨rfl, rfl⟩ dX1_findResult_104 e_S19 ?_
      refine zQ.fg (zl_n (zl_n (zl_n (zl_n zl_0)))) ?_
      exact hj107 _ _ _ (by omega) (by omega) hm
    · have hm := if_e2 hm c
      refine zQ.s (fun h => zs_aload_n (i := 1) o dX1_findResult_81 rfl rfl) ?_
      refine zQ.s (fun h => zs_iconst (v := 1) o dX1_findResult_82 (by decide)) ?_
      obtain ⟨g20, hm⟩ := gd_e hm
      obtain ⟨g21, hm⟩ := gd_e hm
      obtain ⟨S22, e_S22, hm⟩ := lt_e hm
      refine zh_putI o g20 g21 fl_X1_257_8 rfl rfl ⟨rfl, rfl⟩ dX1_findResult_83 e_S22 ?_
      refine zQ.s (fun h => zs_goto (tgt := 107) o dX1_findResult_86 (by decide)) ?_
      refine zQ.fg (zl_n (zl_n (zl_n (zl_n zl_0)))) ?_
      exact hj107 _ _ _ (by omega) (by omega) hm
  · have hm := if_e1 hm c
    refine zQ.s (fun h => zs_aload_n (i := 1) o dX1_findResult_24 rfl rfl) ?_
    refine zQ.s (fun h => zs_aload_n (i := 1) o dX1_findResult_25 rfl rfl) ?_
    obtain ⟨g23, hm⟩ := gd_e hm
    refine zh_getI o g23 fl_X1_250_8 rfl dX1_findResult_26 ?_
    obtain ⟨y24, c_y24, hm⟩ := bd_e hm
    refine zh_Si o ml_X1_253 (J_X1_isAddress G _ _ _ _  c_y24) dX1_findResult_29 rfl rfl rfl rfl (by omega) (by omega) ?_
    refine zQ.b (fun h => zs_if_eq (tgt := 39) o dX1_findResult_32 (by decide)) (fun c => ?_) (fun c => ?_)
    · have hm := if_e1 hm c
      refine zQ.s (fun h => zs_iconst (v := 2) o dX1_findResult_39 (by decide)) ?_
      refine zQ.fg (zl_s (zl_s (zl_n (zl_n zl_0)))) ?_
      exact hj40 _ _ _ _ _ _ _ (by omega) (by omega) hm
    · have hm := if_e2 hm c
      refine zQ.s (fun h => zs_iconst (v := 0) o dX1_findResult_35 (by decide)) ?_
      refine zQ.s (fun h => zs_goto (tgt := 40) o dX1_findResult_36 (by decide)) ?_
      refine zQ.fg (zl_s (zl_s (zl_n (zl_n zl_0)))) ?_
      exact hj40 _ _ _ _ _ _ _ (by omega) (by omega) hm

def j_X1_endOne_j52 (h : zH) (ic : Nat) : Option zH :=
  some h
def j_X1_endOne (h : zH) (p : Nat) (a1 : Nat) (ic : Nat) : Option zH :=
  gd (kd h a1 8) <|
  lt (hR h 8 0 a1) fun r2 =>
  gd (kd h r2 4) <|
  bd (j_X4_hasResult h r2) fun y4 =>
  if y4.2 = (0 : Int32) then
    gd (kd y4.1 p 1) <|
    gd (kd y4.1 a1 8) <|
    bd (j_X8_end y4.1 a1 (hI y4.1 1 26 p)) fun y7 =>
    gd (kd y7 r2 4) <|
    bd (j_X4_isStore y7 r2) fun y9 =>
    if y9.2 = (0 : Int32) then
      gd (kd y9.1 p 1) <|
      bd (j_X1_endGoing y9.1 p a1 ic) fun y11 =>
      j_X1_endOne_j52 y11 ic
    else
      gd (kd y9.1 p 1) <|
      bd (j_X1_endStore y9.1 p a1 ic) fun y13 =>
      j_X1_endOne_j52 y13 ic
  else
    gd (kd y4.1 p 1) <|
    bd (j_X1_findResult y4.1 p a1) fun y15 =>
    gd (kd y15 a1 8) <|
    gd (wr y15 a1) <|
    lt (pI y15 8 14 a1 (98 : Int32)) fun S18 =>
    some S18

set_option maxHeartbeats 40000000 in
theorem J_X1_endOne (G : zG) (h : zH) (p : Nat) (a1 : Nat) (ic : Nat) (h9 : zH) (z_ih : ("java/lang/Integer$IntegerCache", "high", "I", .int 127) ∈ zGz G) (z_ic : ("java/lang/Integer$IntegerCache", "cache", "[Ljava/lang/Integer;", zrf ic) ∈ zGz G) (z_ad : ("java/util/BitSet", "$assertionsDisabled", "Z", .int 1) ∈ zGz G) (hm : j_X1_endOne h p a1 ic = some h9) : zJv G yX1_endOne cX1_endOne 3 none 7 22 35 [zrf p, zrf a1] h h9 := by
  refine zCo.st [some (zrf p), some (zrf a1), none] rfl rfl (by simp only [zarg_r, zarg_i, zarg_l, zarg_0]; rfl) (fun X o f0 hin hw0 => ?_)
  have f := f0.e
  have hin : (Xt X).name = "endOne" := hin
  refine (?_ : zQ (EH h) G X 0 0 0 [some (zrf p), some (zrf a1), none] []) h rfl hw0
  clear hw0
  generalize hR9 : (h9 : zH) = R at hm
  have hj52 : ∀ (h : zH) (cl sl : Nat), cl + (0) ≤ 22 → sl + (0) ≤ 35 → j_X1_endOne_j52 h ic = some R → zQ (EH h) G X cl sl 52 [none, none, none] [] := by
    intro h cl sl hc hs hm
    unfold j_X1_endOne_j52 at hm
    refine zh_retv o f dX1_endOne_52 (by omega) (by omega) ((so_e hm).trans hR9.symm)
  unfold j_X1_endOne at hm
  refine zQ.s (fun h => zs_aload_n (i := 1) o dX1_endOne_0 rfl rfl) ?_
  obtain ⟨g1, hm⟩ := gd_e hm
  refine zh_getR o g1 fl_X1_220_8 rfl dX1_endOne_1 ?_
  obtain ⟨r2, e_r2, hm⟩ := lt_e hm
  refine zQ.nmr e_r2 ?_
  refine zQ.s (fun h => zs_astore_n (i := 2) o dX1_endOne_4 rfl (by decide) (Or.inr (zc2_ref rfl)) (by simp only [List.set_cons_succ, List.set_cons_zero]; rfl)) ?_
  refine zQ.s (fun h => zs_aload_n (i := 2) o dX1_endOne_5 rfl rfl) ?_
  obtain ⟨g3, hm⟩ := gd_e hm
  obtain ⟨y4, c_y4, hm⟩ := bd_e hm
  refine zh_Vi o g3 ml_X1_224 (J_X4_hasResult G _ _ _ _  c_y4) dX1_endOne_6 rfl rfl rfl rfl (by omega) (by omega) ?_
  refine zQ.b (fun h => zs_if_eq (tgt := 24) o dX1_endOne_9 (by decide)) (fun c => ?_) (fun c => ?_)
  · have hm := if_e1 hm c
    refine zQ.s (fun h => zs_aload_n (i := 1) o dX1_endOne_24 rfl rfl) ?_
    refine zQ.s (fun h => zs_aload_n (i := 0) o dX1_endOne_25 rfl rfl) ?_
    obtain ⟨g5, hm⟩ := gd_e hm
    refine zh_getI o g5 fl_X1_153_1 rfl dX1_endOne_26 ?_
    obtain ⟨g6, hm⟩ := gd_e hm
    obtain ⟨y7, c_y7, hm⟩ := bd_e hm
    refine zh_Vv o g6 ml_X1_232 (J_X8_end G _ _ _ _  c_y7) dX1_endOne_29 rfl rfl rfl rfl (by omega) (by omega) ?_
    refine zQ.s (fun h => zs_aload_n (i := 2) o dX1_endOne_32 rfl rfl) ?_
    obtain ⟨g8, hm⟩ := gd_e hm
    obtain ⟨y9, c_y9, hm⟩ := bd_e hm
    refine zh_Vi o g8 ml_X1_235 (J_X4_isStore G _ _ _ _  c_y9) dX1_endOne_33 rfl rfl rfl rfl (by omega) (by omega) ?_
    refine zQ.b (fun h => zs_if_eq (tgt := 47) o dX1_endOne_36 (by decide)) (fun c => ?_) (fun c => ?_)
    · have hm := if_e1 hm c
      refine zQ.s (fun h => zs_aload_n (i := 0) o dX1_endOne_47 rfl rfl) ?_
      refine zQ.s (fun h => zs_aload_n (i := 1) o dX1_endOne_48 rfl rfl) ?_
      obtain ⟨g10, hm⟩ := gd_e hm
      obtain ⟨y11, c_y11, hm⟩ := bd_e hm
      refine zh_Vv o g10 ml_X1_241 (J_X1_endGoing G _ _ _ _ _ z_ih z_ic c_y11) dX1_endOne_49 rfl rfl rfl rfl (by omega) (by omega) ?_
      refine zQ.fg (zl_n (zl_n (zl_n zl_0))) ?_
      exact hj52 _ _ _ (by omega) (by omega) hm
    · have hm := if_e2 hm c
      refine zQ.s (fun h => zs_aload_n (i := 0) o dX1_endOne_39 rfl rfl) ?_
      refine zQ.s (fun h => zs_aload_n (i := 1) o dX1_endOne_40 rfl rfl) ?_
      obtain ⟨g12, hm⟩ := gd_e hm
      obtain ⟨y13, c_y13, hm⟩ := bd_e hm
      refine zh_Vv o g12 ml_X1_238 (J_X1_endStore G _ _ _ _ _ z_ih z_ic z_ad c_y13) dX1_endOne_41 rfl rfl rfl rfl (by omega) (by omega) ?_
      refine zQ.s (fun h => zs_goto (tgt := 52) o dX1_endOne_44 (by decide)) ?_
      refine zQ.fg (zl_n (zl_n (zl_n zl_0))) ?_
      exact hj52 _ _ _ (by omega) (by omega) hm
  · have hm := if_e2 hm c
    refine zQ.s (fun h => zs_aload_n (i := 0) o dX1_endOne_12 rfl rfl) ?_
    refine zQ.s (fun h => zs_aload_n (i := 1) o dX1_endOne_13 rfl rfl) ?_
    obtain ⟨g14, hm⟩ := gd_e hm
    obtain ⟨y15, c_y15, hm⟩ := bd_e hm
    refine zh_Vv o g14 ml_X1_229 (J_X1_findResult G _ _ _ _  c_y15) dX1_endOne_14 rfl rfl rfl rfl (by omega) (by omega) ?_
    refine zQ.s (fun h => zs_aload_n (i := 1) o dX1_endOne_17 rfl rfl) ?_
    refine zQ.s (fun h => zs_bipush (v := 98) o dX1_endOne_18 (by decide)) ?_
    obtain ⟨g16, hm⟩ := gd_e hm
    obtain ⟨g17, hm⟩ := gd_e hm
    obtain ⟨S18, e_S18, hm⟩ := lt_e hm
    refine zh_putI o g16 g17 fl_X1_190_8 rfl rfl ⟨rfl, rfl⟩ dX1_endOne_20 e_S18 ?_
    refine zh_retv o f dX1_endOne_23 (by omega) (by omega) ((so_e hm).trans hR9.symm)

def j_X1_writeResults_j88 (k10 : zH → Nat → Int32 → Nat → Option zH) (h : zH) (x0 : Nat) (x1 : Int32) (x2 : Nat) : Option zH :=
  k10 h x0 x1 x2
def j_X1_writeResults_j68 (k10 : zH → Nat → Int32 → Nat → Option zH) (h : zH) (x0 : Nat) (x1 : Int32) (x2 : Nat) (x3 : Nat) (s2 : Int32) (s1 : Int32) (s0 : Nat) : Option zH :=
  gd (kd h s0 201) <|
  gd (wr h s0) <|
  gd (inb s1 (zN h s0)) <|
  lt (pI h 201 (ix s1) s0 s2) fun S4 =>
  gd (kd S4 x0 1) <|
  gd (kd S4 x3 8) <|
  gd (kd S4 (hR S4 1 10 x0) 11) <|
  bd (j_J3_set S4 (hR S4 1 10 x0) (hI S4 8 12 x3)) fun y8 =>
  gd (kd y8 x0 1) <|
  gd (kd y8 x3 8) <|
  bd (j_X8_end y8 x3 (hI y8 1 26 x0)) fun y11 =>
  j_X1_writeResults_j88 k10 y11 x0 x1 x2
def j_X1_writeResults_b10 (k10 : zH → Nat → Int32 → Nat → Option zH) (h : zH) (x0 : Nat) (x1 : Int32) (x2 : Nat) : Option zH :=
  gd (kd h x2 16) <|
  bd (j_J28_hasNext h x2) fun y2 =>
  if y2.2 = (0 : Int32) then
    some y2.1
  else
    gd (kd y2.1 x2 16) <|
    bd (j_J28_next y2.1 x2) fun y4 =>
    gd (kd y4.1 y4.2 8) <|
    gd (kd y4.1 y4.2 8) <|
    if (hI y4.1 8 14 y4.2) = (98 : Int32) then
      if x1 ≤ (0 : Int32) then
        j_X1_writeResults_j88 k10 y4.1 x0 x1 x2
      else
        gd (kd y4.1 x0 1) <|
        gd (kd y4.1 y4.2 8) <|
        gd (kd y4.1 y4.2 8) <|
        if (hI y4.1 8 16 y4.2) = (0 : Int32) then
          gd (kd y4.1 y4.2 8) <|
          j_X1_writeResults_j68 k10 y4.1 x0 (x1 + (-1 : Int32)) x2 y4.2 (hI y4.1 8 18 y4.2) (hI y4.1 8 12 y4.2) (hR y4.1 1 9 x0)
        else
          j_X1_writeResults_j68 k10 y4.1 x0 (x1 + (-1 : Int32)) x2 y4.2 (0 : Int32) (hI y4.1 8 12 y4.2) (hR y4.1 1 9 x0)
    else
      j_X1_writeResults_j88 k10 y4.1 x0 x1 x2
def j_X1_writeResults_l10 : Nat → zH → Nat → Int32 → Nat → Option zH
  | 0 => fun _ _ _ _ => none
  | n + 1 => j_X1_writeResults_b10 (j_X1_writeResults_l10 n)
def j_X1_writeResults (h : zH) (p : Nat) : Option zH :=
  gd (kd h p 1) <|
  gd (kd h (hR h 1 15 p) 13) <|
  bd (j_J5_iterator h (hR h 1 15 p)) fun y3 =>
  j_X1_writeResults_l10 18 y3.1 p (2 : Int32) y3.2

set_option maxHeartbeats 40000000 in
theorem J_X1_writeResults (G : zG) (h : zH) (p : Nat) (h9 : zH) (z_ad : ("java/util/BitSet", "$assertionsDisabled", "Z", .int 1) ∈ zGz G) (hm : j_X1_writeResults h p = some h9) : zJv G yX1_writeResults cX1_writeResults 4 none 5 1 5 [zrf p] h h9 := by
  refine zCo.st [some (zrf p), none, none, none] rfl rfl (by simp only [zarg_r, zarg_i, zarg_l, zarg_0]; rfl) (fun X o f0 hin hw0 => ?_)
  have f := f0.e
  have hin : (Xt X).name = "writeResults" := hin
  refine (?_ : zQ (EH h) G X 0 0 0 [some (zrf p), none, none, none] []) h rfl hw0
  clear hw0
  generalize hR9 : (h9 : zH) = R at hm
  have hl10 : ∀ (n10 : Nat), n10 ≤ 18 → ∀ (h : zH) (x0 : Nat) (x1 : Int32) (x2 : Nat) (cl sl : Nat), cl + (0) ≤ 1 → sl + (0) ≤ 5 → j_X1_writeResults_l10 n10 h x0 x1 x2 = some R → zQ (EH h) G X cl sl 10 [some (zrf x0), some (.int x1), some (zrf x2), none] [] := by
    intro n10
    induction n10 with
    | zero => intro _ h x0 x1 x2 cl sl _ _ hm; exact no_e hm
    | succ n10 ih =>
      intro hf10
      have ih10 := ih (by omega)
      have hj88 : ∀ (h : zH) (x0 : Nat) (x1 : Int32) (x2 : Nat) (cl sl : Nat), cl + (0) ≤ 1 → sl + (0) ≤ 5 → j_X1_writeResults_j88 (j_X1_writeResults_l10 n10) h x0 x1 x2 = some R → zQ (EH h) G X cl sl 88 [some (zrf x0), some (.int x1), some (zrf x2), none] [] := by
        intro h x0 x1 x2 cl sl hc hs hm
        unfold j_X1_writeResults_j88 at hm
        refine zQ.s (fun h => zs_goto (tgt := 10) o dX1_writeResults_88 (by decide)) ?_
        exact ih10 _ _ _ _ _ _ (by omega) (by omega) hm
      have hj68 : ∀ (h : zH) (x0 : Nat) (x1 : Int32) (x2 : Nat) (x3 : Nat) (s2 : Int32) (s1 : Int32) (s0 : Nat) (cl sl : Nat), cl + (0) ≤ 1 → sl + (0) ≤ 5 → j_X1_writeResults_j68 (j_X1_writeResults_l10 n10) h x0 x1 x2 x3 s2 s1 s0 = some R → zQ (EH h) G X cl sl 68 [some (zrf x0), some (.int x1), some (zrf x2), some (zrf x3)] [.int s2, .int s1, zrf s0] := by
        intro h x0 x1 x2 x3 s2 s1 s0 cl sl hc hs hm
        unfold j_X1_writeResults_j68 at hm
        obtain ⟨g1, hm⟩ := gd_e hm
        obtain ⟨g2, hm⟩ := gd_e hm
        obtain ⟨g3, hm⟩ := gd_e hm
        obtain ⟨S4, e_S4, hm⟩ := lt_e hm
        refine zh_iast o g1 g2 g3 dX1_writeResults_68 e_S4 ?_
        refine zQ.s (fun h => zs_aload_n (i := 0) o dX1_writeResults_69 rfl rfl) ?_
        obtain ⟨g5, hm⟩ := gd_e hm
        refine zh_getR o g5 fl_X1_56_1 rfl dX1_writeResults_70 ?_
        refine zQ.s (fun h => zs_aload_n (i := 3) o dX1_writeResults_73 rfl rfl) ?_
        obtain ⟨g6, hm⟩ := gd_e hm
        refine zh_getI o g6 fl_X1_328_8 rfl dX1_writeResults_74 ?_
        obtain ⟨g7, hm⟩ := gd_e hm
        obtain ⟨y8, c_y8, hm⟩ := bd_e hm
        refine zh_Vv o g7 ml_X1_121 (J_J3_set G _ _ _ _ z_ad c_y8) dX1_writeResults_77 rfl rfl rfl rfl (by omega) (by omega) ?_
        refine zQ.s (fun h => zs_aload_n (i := 3) o dX1_writeResults_80 rfl rfl) ?_
        refine zQ.s (fun h => zs_aload_n (i := 0) o dX1_writeResults_81 rfl rfl) ?_
        obtain ⟨g9, hm⟩ := gd_e hm
        refine zh_getI o g9 fl_X1_153_1 rfl dX1_writeResults_82 ?_
        obtain ⟨g10, hm⟩ := gd_e hm
        obtain ⟨y11, c_y11, hm⟩ := bd_e hm
        refine zh_Vv o g10 ml_X1_232 (J_X8_end G _ _ _ _  c_y11) dX1_writeResults_85 rfl rfl rfl rfl (by omega) (by omega) ?_
        refine zQ.fg (zl_s (zl_s (zl_s (zl_n zl_0)))) ?_
        exact hj88 _ _ _ _ _ _ (by omega) (by omega) hm
      intro h x0 x1 x2 cl sl hc hs hm
      have hm : j_X1_writeResults_b10 (j_X1_writeResults_l10 n10) h x0 x1 x2 = some R := hm
      unfold j_X1_writeResults_b10 at hm
      refine zQ.s (fun h => zs_aload_n (i := 2) o dX1_writeResults_10 rfl rfl) ?_
      obtain ⟨g1, hm⟩ := gd_e hm
      obtain ⟨y2, c_y2, hm⟩ := bd_e hm
      refine zh_Fi o g1 ml_X1_164_16 (J_J28_hasNext G _ _ _ _  c_y2) dX1_writeResults_11 rfl rfl rfl rfl (by omega) (by omega) ?_
      refine zQ.b (fun h => zs_if_eq (tgt := 91) o dX1_writeResults_16 (by decide)) (fun c => ?_) (fun c => ?_)
      · have hm := if_e1 hm c
        refine zh_retv o f dX1_writeResults_91 (by omega) (by omega) ((so_e hm).trans hR9.symm)
      · have hm := if_e2 hm c
        refine zQ.s (fun h => zs_aload_n (i := 2) o dX1_writeResults_19 rfl rfl) ?_
        obtain ⟨g3, hm⟩ := gd_e hm
        obtain ⟨y4, c_y4, hm⟩ := bd_e hm
        refine zh_Fr o g3 ml_X1_170_16 (J_J28_next G _ _ _ _  c_y4) dX1_writeResults_20 rfl rfl rfl rfl (by omega) (by omega) ?_
        obtain ⟨g5, hm⟩ := gd_e hm
        refine zh_cast (c := 8) o q1468 (by decide) (by decide) g5 dX1_writeResults_25 ?_
        refine zQ.s (fun h => zs_astore_n (i := 3) o dX1_writeResults_28 rfl (by decide) (Or.inr (zc2_ref rfl)) (by simp only [List.set_cons_succ, List.set_cons_zero]; rfl)) ?_
        refine zQ.s (fun h => zs_aload_n (i := 3) o dX1_writeResults_29 rfl rfl) ?_
        obtain ⟨g6, hm⟩ := gd_e hm
        refine zh_getI o g6 fl_X1_190_8 rfl dX1_writeResults_30 ?_
        refine zQ.s (fun h => zs_bipush (v := 98) o dX1_writeResults_33 (by decide)) ?_
        refine zQ.b (fun h => zs_icmp_ne (tgt := 88) o dX1_writeResults_35 (by decide)) (fun c => ?_) (fun c => ?_)
        · have hm := if_e2 hm c
          refine zQ.fg (zl_s (zl_s (zl_s (zl_n zl_0)))) ?_
          exact hj88 _ _ _ _ _ _ (by omega) (by omega) hm
        · have hm := if_e1 hm c
          refine zQ.s (fun h => zs_iload_n (i := 1) o dX1_writeResults_38 rfl rfl) ?_
          refine zQ.b (fun h => zs_if_le (tgt := 88) o dX1_writeResults_39 (by decide)) (fun c => ?_) (fun c => ?_)
          · have hm := if_e1 hm c
            refine zQ.fg (zl_s (zl_s (zl_s (zl_n zl_0)))) ?_
            exact hj88 _ _ _ _ _ _ (by omega) (by omega) hm
          · have hm := if_e2 hm c
            refine zQ.s (fun h => zs_iinc (i := 1) (v := x1 + (-1 : Int32)) o dX1_writeResults_42 rfl rfl (by decide) (Or.inr (zc2_ref rfl)) (by simp only [List.set_cons_succ, List.set_cons_zero]; rfl)) ?_
            refine zQ.s (fun h => zs_aload_n (i := 0) o dX1_writeResults_45 rfl rfl) ?_
            obtain ⟨g7, hm⟩ := gd_e hm
            refine zh_getR o g7 fl_X1_50_1 rfl dX1_writeResults_46 ?_
            refine zQ.s (fun h => zs_aload_n (i := 3) o dX1_writeResults_49 rfl rfl) ?_
            obtain ⟨g8, hm⟩ := gd_e hm
            refine zh_getI o g8 fl_X1_328_8 rfl dX1_writeResults_50 ?_
            refine zQ.s (fun h => zs_aload_n (i := 3) o dX1_writeResults_53 rfl rfl) ?_
            obtain ⟨g9, hm⟩ := gd_e hm
            refine zh_getI o g9 fl_X1_257_8 rfl dX1_writeResults_54 ?_
            refine zQ.b (fun h => zs_if_ne (tgt := 67) o dX1_writeResults_57 (by decide)) (fun c => ?_) (fun c => ?_)
            · have hm := if_e2 hm c
              refine zQ.s (fun h => zs_iconst (v := 0) o dX1_writeResults_67 (by decide)) ?_
              exact hj68 _ _ _ _ _ _ _ _ _ _ (by omega) (by omega) hm
            · have hm := if_e1 hm c
              refine zQ.s (fun h => zs_aload_n (i := 3) o dX1_writeResults_60 rfl rfl) ?_
              obtain ⟨g10, hm⟩ := gd_e hm
              refine zh_getI o g10 fl_X1_264_8 rfl dX1_writeResults_61 ?_
              refine zQ.s (fun h => zs_goto (tgt := 68) o dX1_writeResults_64 (by decide)) ?_
              exact hj68 _ _ _ _ _ _ _ _ _ _ (by omega) (by omega) hm
  unfold j_X1_writeResults at hm
  refine zQ.s (fun h => zs_iconst (v := 2) o dX1_writeResults_0 (by decide)) ?_
  refine zQ.s (fun h => zs_istore_n (i := 1) o dX1_writeResults_1 rfl (by decide) (Or.inr (zc2_ref rfl)) (by simp only [List.set_cons_succ, List.set_cons_zero]; rfl)) ?_
  refine zQ.s (fun h => zs_aload_n (i := 0) o dX1_writeResults_2 rfl rfl) ?_
  obtain ⟨g1, hm⟩ := gd_e hm
  refine zh_getR o g1 fl_X1_79_1 rfl dX1_writeResults_3 ?_
  obtain ⟨g2, hm⟩ := gd_e hm
  obtain ⟨y3, c_y3, hm⟩ := bd_e hm
  refine zh_Ur o g2 ml_X1_160 (J_J5_iterator G _ _ _ _  c_y3) dX1_writeResults_6 rfl rfl rfl rfl (by omega) (by omega) ?_
  refine zQ.s (fun h => zs_astore_n (i := 2) o dX1_writeResults_9 rfl (by decide) (Or.inr rfl) (by simp only [List.set_cons_succ, List.set_cons_zero]; rfl)) ?_
  exact hl10 18 (Nat.le_refl _) _ _ _ _ _ _ (by omega) (by omega) hm

def j_X1_endAll_j41 (k10 : zH → Nat → Nat → Nat → Nat → Nat → Option zH) (h : zH) (e0 : Nat) (ic : Nat) (cm : Nat) (x0 : Nat) (x1 : Nat) : Option zH :=
  k10 h e0 ic cm x0 x1
def j_X1_endAll_b10 (k10 : zH → Nat → Nat → Nat → Nat → Nat → Option zH) (h : zH) (e0 : Nat) (ic : Nat) (cm : Nat) (x0 : Nat) (x1 : Nat) : Option zH :=
  gd (kd h x1 15) <|
  bd (j_J26_hasNext h x1) fun y2 =>
  if y2.2 = (0 : Int32) then
    gd (kd y2.1 x0 1) <|
    bd (j_X1_writeResults y2.1 x0) fun y4 =>
    some y4
  else
    gd (kd y2.1 x1 15) <|
    bd (j_J26_next y2.1 x1) fun y6 =>
    gd (kd y6.1 y6.2 8) <|
    gd (kd y6.1 y6.2 8) <|
    if (hI y6.1 8 22 y6.2) = (0 : Int32) then
      gd (kd y6.1 x0 1) <|
      bd (j_X1_endOne y6.1 x0 y6.2 ic) fun y10 =>
      j_X1_endAll_j41 k10 y10 e0 ic cm x0 x1
    else
      j_X1_endAll_j41 k10 y6.1 e0 ic cm x0 x1
def j_X1_endAll_l10 : Nat → zH → Nat → Nat → Nat → Nat → Nat → Option zH
  | 0 => fun _ _ _ _ _ _ => none
  | n + 1 => j_X1_endAll_b10 (j_X1_endAll_l10 n)
def j_X1_endAll (h : zH) (p : Nat) (e0 : Nat) (ic : Nat) (cm : Nat) : Option zH :=
  gd (kd h p 1) <|
  bd (j_X1_ending h p e0 cm) fun y2 =>
  gd (kd y2.1 y2.2 10) <|
  bd (j_J2_iterator y2.1 y2.2) fun y4 =>
  j_X1_endAll_l10 18 y4.1 e0 ic cm p y4.2

set_option maxHeartbeats 40000000 in
theorem J_X1_endAll (G : zG) (h : zH) (p : Nat) (e0 : Nat) (ic : Nat) (cm : Nat) (h9 : zH) (z_e0 : ("java/util/ArrayList", "DEFAULTCAPACITY_EMPTY_ELEMENTDATA", "[Ljava/lang/Object;", zrf e0) ∈ zGz G) (z_ih : ("java/lang/Integer$IntegerCache", "high", "I", .int 127) ∈ zGz G) (z_ic : ("java/lang/Integer$IntegerCache", "cache", "[Ljava/lang/Integer;", zrf ic) ∈ zGz G) (z_ad : ("java/util/BitSet", "$assertionsDisabled", "Z", .int 1) ∈ zGz G) (z_cm : cm = zGm G + 1) (hm : j_X1_endAll h p e0 ic cm = some h9) : zJv G yX1_endAll cX1_endAll 3 none 8 417 1191 [zrf p] h h9 := by
  refine zCo.st [some (zrf p), none, none] rfl rfl (by simp only [zarg_r, zarg_i, zarg_l, zarg_0]; rfl) (fun X o f0 hin hw0 => ?_)
  have f := f0.e
  have hin : (Xt X).name = "endAll" := hin
  refine (?_ : zQ (EH h) G X 0 0 0 [some (zrf p), none, none] []) h rfl hw0
  clear hw0
  generalize hR9 : (h9 : zH) = R at hm
  have hl10 : ∀ (n10 : Nat), n10 ≤ 18 → ∀ (h : zH) (x0 : Nat) (x1 : Nat) (cl sl : Nat), cl + (n10 * 22 + 1) ≤ 417 → sl + (n10 * 35 + 5) ≤ 1191 → j_X1_endAll_l10 n10 h e0 ic cm x0 x1 = some R → zQ (EH h) G X cl sl 10 [some (zrf x0), some (zrf x1), none] [] := by
    intro n10
    induction n10 with
    | zero => intro _ h x0 x1 cl sl _ _ hm; exact no_e hm
    | succ n10 ih =>
      intro hf10
      have ih10 := ih (by omega)
      have hj41 : ∀ (h : zH) (x0 : Nat) (x1 : Nat) (cl sl : Nat), cl + (0 + (n10 * 22 + 1)) ≤ 417 → sl + (0 + (n10 * 35 + 5)) ≤ 1191 → j_X1_endAll_j41 (j_X1_endAll_l10 n10) h e0 ic cm x0 x1 = some R → zQ (EH h) G X cl sl 41 [some (zrf x0), some (zrf x1), none] [] := by
        intro h x0 x1 cl sl hc hs hm
        unfold j_X1_endAll_j41 at hm
        refine zQ.s (fun h => zs_goto (tgt := 10) o dX1_endAll_41 (by decide)) ?_
        exact ih10 _ _ _ _ _ (by omega) (by omega) hm
      intro h x0 x1 cl sl hc hs hm
      have hm : j_X1_endAll_b10 (j_X1_endAll_l10 n10) h e0 ic cm x0 x1 = some R := hm
      unfold j_X1_endAll_b10 at hm
      refine zQ.s (fun h => zs_aload_n (i := 1) o dX1_endAll_10 rfl rfl) ?_
      obtain ⟨g1, hm⟩ := gd_e hm
      obtain ⟨y2, c_y2, hm⟩ := bd_e hm
      refine zh_Fi o g1 ml_X1_164_15 (J_J26_hasNext G _ _ _ _  c_y2) dX1_endAll_11 rfl rfl rfl rfl (by omega) (by omega) ?_
      refine zQ.b (fun h => zs_if_eq (tgt := 44) o dX1_endAll_16 (by decide)) (fun c => ?_) (fun c => ?_)
      · have hm := if_e1 hm c
        refine zQ.s (fun h => zs_aload_n (i := 0) o dX1_endAll_44 rfl rfl) ?_
        obtain ⟨g3, hm⟩ := gd_e hm
        obtain ⟨y4, c_y4, hm⟩ := bd_e hm
        refine zh_Vv o g3 ml_X1_217 (J_X1_writeResults G _ _ _ z_ad c_y4) dX1_endAll_45 rfl rfl rfl rfl (by omega) (by omega) ?_
        refine zh_retv o f dX1_endAll_48 (by omega) (by omega) ((so_e hm).trans hR9.symm)
      · have hm := if_e2 hm c
        refine zQ.s (fun h => zs_aload_n (i := 1) o dX1_endAll_19 rfl rfl) ?_
        obtain ⟨g5, hm⟩ := gd_e hm
        obtain ⟨y6, c_y6, hm⟩ := bd_e hm
        refine zh_Fr o g5 ml_X1_170_15 (J_J26_next G _ _ _ _  c_y6) dX1_endAll_20 rfl rfl rfl rfl (by omega) (by omega) ?_
        obtain ⟨g7, hm⟩ := gd_e hm
        refine zh_cast (c := 8) o q1468 (by decide) (by decide) g7 dX1_endAll_25 ?_
        refine zQ.s (fun h => zs_astore_n (i := 2) o dX1_endAll_28 rfl (by decide) (Or.inr (zc2_ref rfl)) (by simp only [List.set_cons_succ, List.set_cons_zero]; rfl)) ?_
        refine zQ.s (fun h => zs_aload_n (i := 2) o dX1_endAll_29 rfl rfl) ?_
        obtain ⟨g8, hm⟩ := gd_e hm
        refine zh_getI o g8 fl_X1_209_8 rfl dX1_endAll_30 ?_
        refine zQ.b (fun h => zs_if_ne (tgt := 41) o dX1_endAll_33 (by decide)) (fun c => ?_) (fun c => ?_)
        · have hm := if_e2 hm c
          refine zQ.fg (zl_s (zl_s (zl_n zl_0))) ?_
          exact hj41 _ _ _ _ _ (by omega) (by omega) hm
        · have hm := if_e1 hm c
          refine zQ.s (fun h => zs_aload_n (i := 0) o dX1_endAll_36 rfl rfl) ?_
          refine zQ.s (fun h => zs_aload_n (i := 2) o dX1_endAll_37 rfl rfl) ?_
          obtain ⟨g9, hm⟩ := gd_e hm
          obtain ⟨y10, c_y10, hm⟩ := bd_e hm
          refine zh_Vv o g9 ml_X1_213 (J_X1_endOne G _ _ _ _ _ z_ih z_ic z_ad c_y10) dX1_endAll_38 rfl rfl rfl rfl (by omega) (by omega) ?_
          refine zQ.fg (zl_s (zl_s (zl_n zl_0))) ?_
          exact hj41 _ _ _ _ _ (by omega) (by omega) hm
  unfold j_X1_endAll at hm
  refine zQ.s (fun h => zs_aload_n (i := 0) o dX1_endAll_0 rfl rfl) ?_
  obtain ⟨g1, hm⟩ := gd_e hm
  obtain ⟨y2, c_y2, hm⟩ := bd_e hm
  refine zh_Vr o g1 ml_X1_204 (J_X1_ending G _ _ _ _ _ _ z_e0 z_cm c_y2) dX1_endAll_1 rfl rfl rfl rfl (by omega) (by omega) ?_
  obtain ⟨g3, hm⟩ := gd_e hm
  obtain ⟨y4, c_y4, hm⟩ := bd_e hm
  refine zh_Fr o g3 ml_X1_208_10 (J_J2_iterator G _ _ _ _  c_y4) dX1_endAll_4 rfl rfl rfl rfl (by omega) (by omega) ?_
  refine zQ.s (fun h => zs_astore_n (i := 1) o dX1_endAll_9 rfl (by decide) (Or.inr (zc2_ref rfl)) (by simp only [List.set_cons_succ, List.set_cons_zero]; rfl)) ?_
  exact hl10 18 (Nat.le_refl _) _ _ _ _ _ (by omega) (by omega) hm

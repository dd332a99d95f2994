/-! THE COMPONENT, method by method over the heap: printed by mk40.py -/
set_option maxRecDepth 100000
def j_X1_add_j90 (h : zH) (e0 : Nat) (cm : Nat) (B : Nat) (x0 : Nat) (x1 : Int32) (x2 : Int32) (x3 : Int32) (x4 : Int32) (x5 : Int32) (s0 : Int32) : Option (zH × Int32) :=
  bd (j_X1_checkState h s0) fun y1 =>
  gd (kd y1 x0 1) <|
  lt (zT y1 + 1) fun r3 =>
  lt (nw y1 4 1 0) fun S4 =>
  gd (nzr r3) <|
  bd (j_X4_init S4 r3 x1 x2 x3 x4 x5) fun y6 =>
  gd (kd y6 (hR y1 1 0 x0) 10) <|
  bd (j_J2_add y6 (hR y1 1 0 x0) r3 e0 cm B) fun y8 =>
  gd (kd y8.1 x0 1) <|
  gd (kd y8.1 (hR y8.1 1 0 x0) 10) <|
  bd (j_J2_size y8.1 (hR y8.1 1 0 x0)) fun y11 =>
  some (y11.1, y11.2 - (1 : Int32))
def j_X1_add_j64 (h : zH) (e0 : Nat) (cm : Nat) (B : Nat) (x0 : Nat) (x1 : Int32) (x2 : Int32) (x3 : Int32) (x4 : Int32) (x5 : Int32) (s0 : Int32) : Option (zH × Int32) :=
  bd (j_X1_checkArgument h s0) fun y1 =>
  gd (kd y1 x0 1) <|
  bd (j_X1_checkFresh y1 x0) fun y3 =>
  gd (kd y3 x0 1) <|
  gd (kd y3 (hR y3 1 0 x0) 10) <|
  bd (j_J2_size y3 (hR y3 1 0 x0)) fun y6 =>
  if (64 : Int32) ≤ y6.2 then
    j_X1_add_j90 y6.1 e0 cm B x0 x1 x2 x3 x4 x5 (0 : Int32)
  else
    j_X1_add_j90 y6.1 e0 cm B x0 x1 x2 x3 x4 x5 (1 : Int32)
def j_X1_add_j59 (h : zH) (e0 : Nat) (cm : Nat) (B : Nat) (x0 : Nat) (x1 : Int32) (x2 : Int32) (x3 : Int32) (x4 : Int32) (x5 : Int32) : Option (zH × Int32) :=
  j_X1_add_j64 h e0 cm B x0 x1 x2 x3 x4 x5 (1 : Int32)
def j_X1_add_j37 (h : zH) (e0 : Nat) (cm : Nat) (B : Nat) (x0 : Nat) (x1 : Int32) (x2 : Int32) (x3 : Int32) (x4 : Int32) (x5 : Int32) (s0 : Int32) : Option (zH × Int32) :=
  bd (j_X1_checkArgument h s0) fun y1 =>
  bd (j_X1_isBetween y1 x1 (12 : Int32) (15 : Int32)) fun y2 =>
  if y2.2 = (0 : Int32) then
    j_X1_add_j59 y2.1 e0 cm B x0 x1 x2 x3 x4 x5
  else
    bd (j_X1_isPlace y2.1 x5) fun y3 =>
    if y3.2 = (0 : Int32) then
      j_X1_add_j64 y3.1 e0 cm B x0 x1 x2 x3 x4 x5 (0 : Int32)
    else
      j_X1_add_j59 y3.1 e0 cm B x0 x1 x2 x3 x4 x5
def j_X1_add_j36 (h : zH) (e0 : Nat) (cm : Nat) (B : Nat) (x0 : Nat) (x1 : Int32) (x2 : Int32) (x3 : Int32) (x4 : Int32) (x5 : Int32) : Option (zH × Int32) :=
  j_X1_add_j37 h e0 cm B x0 x1 x2 x3 x4 x5 (0 : Int32)
def j_X1_add (h : zH) (p : Nat) (a1 : Int32) (a2 : Int32) (a3 : Int32) (a4 : Int32) (a5 : Int32) (e0 : Nat) (cm : Nat) (B : Nat) : Option (zH × Int32) :=
  bd (j_X1_isBetween h a1 (0 : Int32) (21 : Int32)) fun y1 =>
  if y1.2 = (0 : Int32) then
    j_X1_add_j36 y1.1 e0 cm B p a1 a2 a3 a4 a5
  else
    bd (j_X1_isRegister y1.1 a2) fun y2 =>
    if y2.2 = (0 : Int32) then
      j_X1_add_j36 y2.1 e0 cm B p a1 a2 a3 a4 a5
    else
      bd (j_X1_isRegister y2.1 a3) fun y3 =>
      if y3.2 = (0 : Int32) then
        j_X1_add_j36 y3.1 e0 cm B p a1 a2 a3 a4 a5
      else
        bd (j_X1_isRegister y3.1 a4) fun y4 =>
        if y4.2 = (0 : Int32) then
          j_X1_add_j36 y4.1 e0 cm B p a1 a2 a3 a4 a5
        else
          j_X1_add_j37 y4.1 e0 cm B p a1 a2 a3 a4 a5 (1 : Int32)

set_option maxHeartbeats 40000000 in
theorem J_X1_add (G : zG) (h : zH) (p : Nat) (a1 : Int32) (a2 : Int32) (a3 : Int32) (a4 : Int32) (a5 : Int32) (e0 : Nat) (cm : Nat) (B : Nat) (V : Int32) (h9 : zH) (z_e0 : ("java/util/ArrayList", "DEFAULTCAPACITY_EMPTY_ELEMENTDATA", "[Ljava/lang/Object;", zrf e0) ∈ zGz G) (z_cm : cm = zGm G + 1) (hm : j_X1_add h p a1 a2 a3 a4 a5 e0 cm B = some (h9, V)) : zJi G yX1_add cX1_add 6 (some .int) 7 2 (15 + B) [zrf p, .int a1, .int a2, .int a3, .int a4, .int a5] h V h9 := by
  refine zCo.st [some (zrf p), some (.int a1), some (.int a2), some (.int a3), some (.int a4), some (.int a5)] rfl rfl (by simp only [zarg_r, zarg_i, zarg_l, zarg_0]; rfl) (fun X o f0 hin hw0 => ?_)
  have f := f0.e
  have hin : (Xt X).name = "add" := hin
  refine (?_ : zQ (EH h) G X 0 0 0 [some (zrf p), some (.int a1), some (.int a2), some (.int a3), some (.int a4), some (.int a5)] []) h rfl hw0
  clear hw0
  generalize hR9 : ((h9, V) : (zH × Int32)) = R at hm
  have hj90 : ∀ (h : zH) (x0 : Nat) (x1 : Int32) (x2 : Int32) (x3 : Int32) (x4 : Int32) (x5 : Int32) (s0 : Int32) (cl sl : Nat), cl + (2) ≤ 2 → sl + ((15 + B)) ≤ (15 + B) → j_X1_add_j90 h e0 cm B x0 x1 x2 x3 x4 x5 s0 = some R → zQ (EH h) G X cl sl 90 [some (zrf x0), some (.int x1), some (.int x2), some (.int x3), some (.int x4), some (.int x5)] [.int s0] := by
    intro h x0 x1 x2 x3 x4 x5 s0 cl sl hc hs hm
    unfold j_X1_add_j90 at hm
    obtain ⟨y1, c_y1, hm⟩ := bd_e hm
    refine zh_Sv o ml_X1_156 (J_X1_checkState G _ _ _  c_y1) dX1_add_90 rfl rfl rfl rfl (by omega) (by omega) ?_
    refine zQ.s (fun h => zs_aload_n (i := 0) o dX1_add_93 rfl rfl) ?_
    obtain ⟨g2, hm⟩ := gd_e hm
    refine zh_getR o g2 fl_X1_16_1 rfl dX1_add_94 ?_
    obtain ⟨r3, e_r3, hm⟩ := lt_e hm
    obtain ⟨S4, e_S4, hm⟩ := lt_e hm
    refine zh_new (N := 5) o nl_X1_225 rfl dX1_add_97 (by omega) (by omega) e_S4 ?_
    refine zQ.nmr e_r3 ?_
    refine zQ.s (fun h => zs_dup o dX1_add_100 (by first | rfl | exact zrf_cat _)) ?_
    refine zQ.s (fun h => zs_iload_n (i := 1) o dX1_add_101 rfl rfl) ?_
    refine zQ.s (fun h => zs_iload_n (i := 2) o dX1_add_102 rfl rfl) ?_
    refine zQ.s (fun h => zs_iload_n (i := 3) o dX1_add_103 rfl rfl) ?_
    refine zQ.s (fun h => zs_iload (i := 4) o dX1_add_104 rfl) ?_
    refine zQ.s (fun h => zs_iload (i := 5) o dX1_add_106 rfl) ?_
    obtain ⟨g5, hm⟩ := gd_e hm
    obtain ⟨y6, c_y6, hm⟩ := bd_e hm
    refine zh_Iv o g5 ml_X1_584 (J_X4_init G _ _ _ _ _ _ _ _  c_y6) dX1_add_108 rfl rfl rfl rfl (by omega) (by omega) ?_
    obtain ⟨g7, hm⟩ := gd_e hm
    obtain ⟨y8, c_y8, hm⟩ := bd_e hm
    refine zh_Fi o g7 ml_X1_198_10 (J_J2_add G _ _ _ _ _ _ _ _ z_e0 z_cm c_y8) dX1_add_111 rfl rfl rfl rfl (by omega) (by omega) ?_
    refine zQ.s (fun h => zs_pop o dX1_add_116 (by first | rfl | exact zrf_cat _)) ?_
    refine zQ.s (fun h => zs_aload_n (i := 0) o dX1_add_117 rfl rfl) ?_
    obtain ⟨g9, hm⟩ := gd_e hm
    refine zh_getR o g9 fl_X1_16_1 rfl dX1_add_118 ?_
    obtain ⟨g10, hm⟩ := gd_e hm
    obtain ⟨y11, c_y11, hm⟩ := bd_e hm
    refine zh_Fi o g10 ml_X1_543_10 (J_J2_size G _ _ _ _  c_y11) dX1_add_121 rfl rfl rfl rfl (by omega) (by omega) ?_
    refine zQ.s (fun h => zs_iconst (v := 1) o dX1_add_126 (by decide)) ?_
    refine zQ.s (fun h => zs_isub o dX1_add_127) ?_
    refine zh_reti o f dX1_add_128 rfl (by omega) (by omega) ((so_e hm).trans hR9.symm)
  have hj64 : ∀ (h : zH) (x0 : Nat) (x1 : Int32) (x2 : Int32) (x3 : Int32) (x4 : Int32) (x5 : Int32) (s0 : Int32) (cl sl : Nat), cl + (2) ≤ 2 → sl + ((15 + B)) ≤ (15 + B) → j_X1_add_j64 h e0 cm B x0 x1 x2 x3 x4 x5 s0 = some R → zQ (EH h) G X cl sl 64 [some (zrf x0), some (.int x1), some (.int x2), some (.int x3), some (.int x4), some (.int x5)] [.int s0] := by
    intro h x0 x1 x2 x3 x4 x5 s0 cl sl hc hs hm
    unfold j_X1_add_j64 at hm
    obtain ⟨y1, c_y1, hm⟩ := bd_e hm
    refine zh_Sv o ml_X1_578 (J_X1_checkArgument G _ _ _  c_y1) dX1_add_64 rfl rfl rfl rfl (by omega) (by omega) ?_
    refine zQ.s (fun h => zs_aload_n (i := 0) o dX1_add_67 rfl rfl) ?_
    obtain ⟨g2, hm⟩ := gd_e hm
    obtain ⟨y3, c_y3, hm⟩ := bd_e hm
    refine zh_Vv o g2 ml_X1_581 (J_X1_checkFresh G _ _ _  c_y3) dX1_add_68 rfl rfl rfl rfl (by omega) (by omega) ?_
    refine zQ.s (fun h => zs_aload_n (i := 0) o dX1_add_71 rfl rfl) ?_
    obtain ⟨g4, hm⟩ := gd_e hm
    refine zh_getR o g4 fl_X1_16_1 rfl dX1_add_72 ?_
    obtain ⟨g5, hm⟩ := gd_e hm
    obtain ⟨y6, c_y6, hm⟩ := bd_e hm
    refine zh_Fi o g5 ml_X1_543_10 (J_J2_size G _ _ _ _  c_y6) dX1_add_75 rfl rfl rfl rfl (by omega) (by omega) ?_
    refine zQ.s (fun h => zs_bipush (v := 64) o dX1_add_80 (by decide)) ?_
    refine zQ.b (fun h => zs_icmp_ge (tgt := 89) o dX1_add_82 (by decide)) (fun c => ?_) (fun c => ?_)
    · have hm := if_e1 hm c
      refine zQ.s (fun h => zs_iconst (v := 0) o dX1_add_89 (by decide)) ?_
      exact hj90 _ _ _ _ _ _ _ _ _ _ (by omega) (by omega) hm
    · have hm := if_e2 hm c
      refine zQ.s (fun h => zs_iconst (v := 1) o dX1_add_85 (by decide)) ?_
      refine zQ.s (fun h => zs_goto (tgt := 90) o dX1_add_86 (by decide)) ?_
      exact hj90 _ _ _ _ _ _ _ _ _ _ (by omega) (by omega) hm
  have hj59 : ∀ (h : zH) (x0 : Nat) (x1 : Int32) (x2 : Int32) (x3 : Int32) (x4 : Int32) (x5 : Int32) (cl sl : Nat), cl + (2) ≤ 2 → sl + ((15 + B)) ≤ (15 + B) → j_X1_add_j59 h e0 cm B x0 x1 x2 x3 x4 x5 = some R → zQ (EH h) G X cl sl 59 [some (zrf x0), some (.int x1), some (.int x2), some (.int x3), some (.int x4), some (.int x5)] [] := by
    intro h x0 x1 x2 x3 x4 x5 cl sl hc hs hm
    unfold j_X1_add_j59 at hm
    refine zQ.s (fun h => zs_iconst (v := 1) o dX1_add_59 (by decide)) ?_
    refine zQ.s (fun h => zs_goto (tgt := 64) o dX1_add_60 (by decide)) ?_
    exact hj64 _ _ _ _ _ _ _ _ _ _ (by omega) (by omega) hm
  have hj37 : ∀ (h : zH) (x0 : Nat) (x1 : Int32) (x2 : Int32) (x3 : Int32) (x4 : Int32) (x5 : Int32) (s0 : Int32) (cl sl : Nat), cl + (2) ≤ 2 → sl + ((15 + B)) ≤ (15 + B) → j_X1_add_j37 h e0 cm B x0 x1 x2 x3 x4 x5 s0 = some R → zQ (EH h) G X cl sl 37 [some (zrf x0), some (.int x1), some (.int x2), some (.int x3), some (.int x4), some (.int x5)] [.int s0] := by
    intro h x0 x1 x2 x3 x4 x5 s0 cl sl hc hs hm
    unfold j_X1_add_j37 at hm
    obtain ⟨y1, c_y1, hm⟩ := bd_e hm
    refine zh_Sv o ml_X1_578 (J_X1_checkArgument G _ _ _  c_y1) dX1_add_37 rfl rfl rfl rfl (by omega) (by omega) ?_
    refine zQ.s (fun h => zs_iload_n (i := 1) o dX1_add_40 rfl rfl) ?_
    refine zQ.s (fun h => zs_bipush (v := 12) o dX1_add_41 (by decide)) ?_
    refine zQ.s (fun h => zs_bipush (v := 15) o dX1_add_43 (by decide)) ?_
    obtain ⟨y2, c_y2, hm⟩ := bd_e hm
    refine zh_Si o ml_X1_3 (J_X1_isBetween G _ _ _ _ _ _  c_y2) dX1_add_45 rfl rfl rfl rfl (by omega) (by omega) ?_
    refine zQ.b (fun h => zs_if_eq (tgt := 59) o dX1_add_48 (by decide)) (fun c => ?_) (fun c => ?_)
    · have hm := if_e1 hm c
      exact hj59 _ _ _ _ _ _ _ _ _ (by omega) (by omega) hm
    · have hm := if_e2 hm c
      refine zQ.s (fun h => zs_iload (i := 5) o dX1_add_51 rfl) ?_
      obtain ⟨y3, c_y3, hm⟩ := bd_e hm
      refine zh_Si o ml_X1_307 (J_X1_isPlace G _ _ _ _  c_y3) dX1_add_53 rfl rfl rfl rfl (by omega) (by omega) ?_
      refine zQ.b (fun h => zs_if_eq (tgt := 63) o dX1_add_56 (by decide)) (fun c => ?_) (fun c => ?_)
      · have hm := if_e1 hm c
        refine zQ.s (fun h => zs_iconst (v := 0) o dX1_add_63 (by decide)) ?_
        exact hj64 _ _ _ _ _ _ _ _ _ _ (by omega) (by omega) hm
      · have hm := if_e2 hm c
        exact hj59 _ _ _ _ _ _ _ _ _ (by omega) (by omega) hm
  have hj36 : ∀ (h : zH) (x0 : Nat) (x1 : Int32) (x2 : Int32) (x3 : Int32) (x4 : Int32) (x5 : Int32) (cl sl : Nat), cl + (2) ≤ 2 → sl + ((15 + B)) ≤ (15 + B) → j_X1_add_j36 h e0 cm B x0 x1 x2 x3 x4 x5 = some R → zQ (EH h) G X cl sl 36 [some (zrf x0), some (.int x1), some (.int x2), some (.int x3), some (.int x4), some (.int x5)] [] := by
    intro h x0 x1 x2 x3 x4 x5 cl sl hc hs hm
    unfold j_X1_add_j36 at hm
    refine zQ.s (fun h => zs_iconst (v := 0) o dX1_add_36 (by decide)) ?_
    exact hj37 _ _ _ _ _ _ _ _ _ _ (by omega) (by omega) hm
  unfold j_X1_add at hm
  refine zQ.s (fun h => zs_iload_n (i := 1) o dX1_add_0 rfl rfl) ?_
  refine zQ.s (fun h => zs_iconst (v := 0) o dX1_add_1 (by decide)) ?_
  refine zQ.s (fun h => zs_bipush (v := 21) o dX1_add_2 (by decide)) ?_
  obtain ⟨y1, c_y1, hm⟩ := bd_e hm
  refine zh_Si o ml_X1_3 (J_X1_isBetween G _ _ _ _ _ _  c_y1) dX1_add_4 rfl rfl rfl rfl (by omega) (by omega) ?_
  refine zQ.b (fun h => zs_if_eq (tgt := 36) o dX1_add_7 (by decide)) (fun c => ?_) (fun c => ?_)
  · have hm := if_e1 hm c
    exact hj36 _ _ _ _ _ _ _ _ _ (by omega) (by omega) hm
  · have hm := if_e2 hm c
    refine zQ.s (fun h => zs_iload_n (i := 2) o dX1_add_10 rfl rfl) ?_
    obtain ⟨y2, c_y2, hm⟩ := bd_e hm
    refine zh_Si o ml_X1_575 (J_X1_isRegister G _ _ _ _  c_y2) dX1_add_11 rfl rfl rfl rfl (by omega) (by omega) ?_
    refine zQ.b (fun h => zs_if_eq (tgt := 36) o dX1_add_14 (by decide)) (fun c => ?_) (fun c => ?_)
    · have hm := if_e1 hm c
      exact hj36 _ _ _ _ _ _ _ _ _ (by omega) (by omega) hm
    · have hm := if_e2 hm c
      refine zQ.s (fun h => zs_iload_n (i := 3) o dX1_add_17 rfl rfl) ?_
      obtain ⟨y3, c_y3, hm⟩ := bd_e hm
      refine zh_Si o ml_X1_575 (J_X1_isRegister G _ _ _ _  c_y3) dX1_add_18 rfl rfl rfl rfl (by omega) (by omega) ?_
      refine zQ.b (fun h => zs_if_eq (tgt := 36) o dX1_add_21 (by decide)) (fun c => ?_) (fun c => ?_)
      · have hm := if_e1 hm c
        exact hj36 _ _ _ _ _ _ _ _ _ (by omega) (by omega) hm
      · have hm := if_e2 hm c
        refine zQ.s (fun h => zs_iload (i := 4) o dX1_add_24 rfl) ?_
        obtain ⟨y4, c_y4, hm⟩ := bd_e hm
        refine zh_Si o ml_X1_575 (J_X1_isRegister G _ _ _ _  c_y4) dX1_add_26 rfl rfl rfl rfl (by omega) (by omega) ?_
        refine zQ.b (fun h => zs_if_eq (tgt := 36) o dX1_add_29 (by decide)) (fun c => ?_) (fun c => ?_)
        · have hm := if_e1 hm c
          exact hj36 _ _ _ _ _ _ _ _ _ (by omega) (by omega) hm
        · have hm := if_e2 hm c
          refine zQ.s (fun h => zs_iconst (v := 1) o dX1_add_32 (by decide)) ?_
          refine zQ.s (fun h => zs_goto (tgt := 37) o dX1_add_33 (by decide)) ?_
          exact hj37 _ _ _ _ _ _ _ _ _ _ (by omega) (by omega) hm

def j_X1_setRegister (h : zH) (p : Nat) (a1 : Int32) (a2 : Int32) : Option (zH × Int32) :=
  bd (j_X1_isRegister h a1) fun y1 =>
  bd (j_X1_checkArgument y1.1 y1.2) fun y2 =>
  gd (kd y2 p 1) <|
  bd (j_X1_checkFresh y2 p) fun y4 =>
  gd (kd y4 p 1) <|
  gd (kd y4 (hR y4 1 1 p) 201) <|
  gd (inb a1 (zN y4 (hR y4 1 1 p))) <|
  lt (hI y4 201 (ix a1) (hR y4 1 1 p)) fun v8 =>
  gd (kd y4 p 1) <|
  gd (kd y4 (hR y4 1 1 p) 201) <|
  gd (wr y4 (hR y4 1 1 p)) <|
  gd (inb a1 (zN y4 (hR y4 1 1 p))) <|
  lt (pI y4 201 (ix a1) (hR y4 1 1 p) a2) fun S13 =>
  gd (kd S13 p 1) <|
  gd (kd S13 (hR S13 1 9 p) 201) <|
  gd (wr S13 (hR S13 1 9 p)) <|
  gd (inb a1 (zN S13 (hR S13 1 9 p))) <|
  lt (pI S13 201 (ix a1) (hR S13 1 9 p) a2) fun S18 =>
  some (S18, v8)

set_option maxHeartbeats 40000000 in
theorem J_X1_setRegister (G : zG) (h : zH) (p : Nat) (a1 : Int32) (a2 : Int32) (V : Int32) (h9 : zH) (hm : j_X1_setRegister h p a1 a2 = some (h9, V)) : zJi G yX1_setRegister cX1_setRegister 4 (some .int) 2 0 0 [zrf p, .int a1, .int a2] h V h9 := by
  refine zCo.st [some (zrf p), some (.int a1), some (.int a2), none] rfl rfl (by simp only [zarg_r, zarg_i, zarg_l, zarg_0]; rfl) (fun X o f0 hin hw0 => ?_)
  have f := f0.e
  have hin : (Xt X).name = "setRegister" := hin
  refine (?_ : zQ (EH h) G X 0 0 0 [some (zrf p), some (.int a1), some (.int a2), none] []) h rfl hw0
  clear hw0
  generalize hR9 : ((h9, V) : (zH × Int32)) = R at hm
  unfold j_X1_setRegister at hm
  refine zQ.s (fun h => zs_iload_n (i := 1) o dX1_setRegister_0 rfl rfl) ?_
  obtain ⟨y1, c_y1, hm⟩ := bd_e hm
  refine zh_Si o ml_X1_575 (J_X1_isRegister G _ _ _ _  c_y1) dX1_setRegister_1 rfl rfl rfl rfl (by omega) (by omega) ?_
  obtain ⟨y2, c_y2, hm⟩ := bd_e hm
  refine zh_Sv o ml_X1_578 (J_X1_checkArgument G _ _ _  c_y2) dX1_setRegister_4 rfl rfl rfl rfl (by omega) (by omega) ?_
  refine zQ.s (fun h => zs_aload_n (i := 0) o dX1_setRegister_7 rfl rfl) ?_
  obtain ⟨g3, hm⟩ := gd_e hm
  obtain ⟨y4, c_y4, hm⟩ := bd_e hm
  refine zh_Vv o g3 ml_X1_581 (J_X1_checkFresh G _ _ _  c_y4) dX1_setRegister_8 rfl rfl rfl rfl (by omega) (by omega) ?_
  refine zQ.s (fun h => zs_aload_n (i := 0) o dX1_setRegister_11 rfl rfl) ?_
  obtain ⟨g5, hm⟩ := gd_e hm
  refine zh_getR o g5 fl_X1_20_1 rfl dX1_setRegister_12 ?_
  refine zQ.s (fun h => zs_iload_n (i := 1) o dX1_setRegister_15 rfl rfl) ?_
  obtain ⟨g6, hm⟩ := gd_e hm
  obtain ⟨g7, hm⟩ := gd_e hm
  refine zh_iald o g6 g7 dX1_setRegister_16 ?_
  obtain ⟨v8, e_v8, hm⟩ := lt_e hm
  refine zQ.nmi e_v8 ?_
  refine zQ.s (fun h => zs_istore_n (i := 3) o dX1_setRegister_17 rfl (by decide) (Or.inr rfl) (by simp only [List.set_cons_succ, List.set_cons_zero]; rfl)) ?_
  refine zQ.s (fun h => zs_aload_n (i := 0) o dX1_setRegister_18 rfl rfl) ?_
  obtain ⟨g9, hm⟩ := gd_e hm
  refine zh_getR o g9 fl_X1_20_1 rfl dX1_setRegister_19 ?_
  refine zQ.s (fun h => zs_iload_n (i := 1) o dX1_setRegister_22 rfl rfl) ?_
  refine zQ.s (fun h => zs_iload_n (i := 2) o dX1_setRegister_23 rfl rfl) ?_
  obtain ⟨g10, hm⟩ := gd_e hm
  obtain ⟨g11, hm⟩ := gd_e hm
  obtain ⟨g12, hm⟩ := gd_e hm
  obtain ⟨S13, e_S13, hm⟩ := lt_e hm
  refine zh_iast o g10 g11 g12 dX1_setRegister_24 e_S13 ?_
  refine zQ.s (fun h => zs_aload_n (i := 0) o dX1_setRegister_25 rfl rfl) ?_
  obtain ⟨g14, hm⟩ := gd_e hm
  refine zh_getR o g14 fl_X1_50_1 rfl dX1_setRegister_26 ?_
  refine zQ.s (fun h => zs_iload_n (i := 1) o dX1_setRegister_29 rfl rfl) ?_
  refine zQ.s (fun h => zs_iload_n (i := 2) o dX1_setRegister_30 rfl rfl) ?_
  obtain ⟨g15, hm⟩ := gd_e hm
  obtain ⟨g16, hm⟩ := gd_e hm
  obtain ⟨g17, hm⟩ := gd_e hm
  obtain ⟨S18, e_S18, hm⟩ := lt_e hm
  refine zh_iast o g15 g16 g17 dX1_setRegister_31 e_S18 ?_
  refine zQ.s (fun h => zs_iload_n (i := 3) o dX1_setRegister_32 rfl rfl) ?_
  refine zh_reti o f dX1_setRegister_33 rfl (by omega) (by omega) ((so_e hm).trans hR9.symm)

def j_X1_setWord (h : zH) (p : Nat) (a1 : Int32) (a2 : Int32) : Option (zH × Int32) :=
  bd (j_X1_isAddress h a1) fun y1 =>
  bd (j_X1_checkArgument y1.1 y1.2) fun y2 =>
  gd (kd y2 p 1) <|
  bd (j_X1_checkFresh y2 p) fun y4 =>
  gd (kd y4 p 1) <|
  gd (kd y4 (hR y4 1 2 p) 201) <|
  gd (inb a1 (zN y4 (hR y4 1 2 p))) <|
  lt (hI y4 201 (ix a1) (hR y4 1 2 p)) fun v8 =>
  gd (kd y4 p 1) <|
  gd (kd y4 (hR y4 1 2 p) 201) <|
  gd (wr y4 (hR y4 1 2 p)) <|
  gd (inb a1 (zN y4 (hR y4 1 2 p))) <|
  lt (pI y4 201 (ix a1) (hR y4 1 2 p) a2) fun S13 =>
  gd (kd S13 p 1) <|
  gd (kd S13 (hR S13 1 3 p) 201) <|
  gd (wr S13 (hR S13 1 3 p)) <|
  gd (inb a1 (zN S13 (hR S13 1 3 p))) <|
  lt (pI S13 201 (ix a1) (hR S13 1 3 p) a2) fun S18 =>
  some (S18, v8)

set_option maxHeartbeats 40000000 in
theorem J_X1_setWord (G : zG) (h : zH) (p : Nat) (a1 : Int32) (a2 : Int32) (V : Int32) (h9 : zH) (hm : j_X1_setWord h p a1 a2 = some (h9, V)) : zJi G yX1_setWord cX1_setWord 4 (some .int) 2 0 0 [zrf p, .int a1, .int a2] h V h9 := by
  refine zCo.st [some (zrf p), some (.int a1), some (.int a2), none] rfl rfl (by simp only [zarg_r, zarg_i, zarg_l, zarg_0]; rfl) (fun X o f0 hin hw0 => ?_)
  have f := f0.e
  have hin : (Xt X).name = "setWord" := hin
  refine (?_ : zQ (EH h) G X 0 0 0 [some (zrf p), some (.int a1), some (.int a2), none] []) h rfl hw0
  clear hw0
  generalize hR9 : ((h9, V) : (zH × Int32)) = R at hm
  unfold j_X1_setWord at hm
  refine zQ.s (fun h => zs_iload_n (i := 1) o dX1_setWord_0 rfl rfl) ?_
  obtain ⟨y1, c_y1, hm⟩ := bd_e hm
  refine zh_Si o ml_X1_253 (J_X1_isAddress G _ _ _ _  c_y1) dX1_setWord_1 rfl rfl rfl rfl (by omega) (by omega) ?_
  obtain ⟨y2, c_y2, hm⟩ := bd_e hm
  refine zh_Sv o ml_X1_578 (J_X1_checkArgument G _ _ _  c_y2) dX1_setWord_4 rfl rfl rfl rfl (by omega) (by omega) ?_
  refine zQ.s (fun h => zs_aload_n (i := 0) o dX1_setWord_7 rfl rfl) ?_
  obtain ⟨g3, hm⟩ := gd_e hm
  obtain ⟨y4, c_y4, hm⟩ := bd_e hm
  refine zh_Vv o g3 ml_X1_581 (J_X1_checkFresh G _ _ _  c_y4) dX1_setWord_8 rfl rfl rfl rfl (by omega) (by omega) ?_
  refine zQ.s (fun h => zs_aload_n (i := 0) o dX1_setWord_11 rfl rfl) ?_
  obtain ⟨g5, hm⟩ := gd_e hm
  refine zh_getR o g5 fl_X1_24_1 rfl dX1_setWord_12 ?_
  refine zQ.s (fun h => zs_iload_n (i := 1) o dX1_setWord_15 rfl rfl) ?_
  obtain ⟨g6, hm⟩ := gd_e hm
  obtain ⟨g7, hm⟩ := gd_e hm
  refine zh_iald o g6 g7 dX1_setWord_16 ?_
  obtain ⟨v8, e_v8, hm⟩ := lt_e hm
  refine zQ.nmi e_v8 ?_
  refine zQ.s (fun h => zs_istore_n (i := 3) o dX1_setWord_17 rfl (by decide) (Or.inr rfl) (by simp only [List.set_cons_succ, List.set_cons_zero]; rfl)) ?_
  refine zQ.s (fun h => zs_aload_n (i := 0) o dX1_setWord_18 rfl rfl) ?_
  obtain ⟨g9, hm⟩ := gd_e hm
  refine zh_getR o g9 fl_X1_24_1 rfl dX1_setWord_19 ?_
  refine zQ.s (fun h => zs_iload_n (i := 1) o dX1_setWord_22 rfl rfl) ?_
  refine zQ.s (fun h => zs_iload_n (i := 2) o dX1_setWord_23 rfl rfl) ?_
  obtain ⟨g10, hm⟩ := gd_e hm
  obtain ⟨g11, hm⟩ := gd_e hm
  obtain ⟨g12, hm⟩ := gd_e hm
  obtain ⟨S13, e_S13, hm⟩ := lt_e hm
  refine zh_iast o g10 g11 g12 dX1_setWord_24 e_S13 ?_
  refine zQ.s (fun h => zs_aload_n (i := 0) o dX1_setWord_25 rfl rfl) ?_
  obtain ⟨g14, hm⟩ := gd_e hm
  refine zh_getR o g14 fl_X1_27_1 rfl dX1_setWord_26 ?_
  refine zQ.s (fun h => zs_iload_n (i := 1) o dX1_setWord_29 rfl rfl) ?_
  refine zQ.s (fun h => zs_iload_n (i := 2) o dX1_setWord_30 rfl rfl) ?_
  obtain ⟨g15, hm⟩ := gd_e hm
  obtain ⟨g16, hm⟩ := gd_e hm
  obtain ⟨g17, hm⟩ := gd_e hm
  obtain ⟨S18, e_S18, hm⟩ := lt_e hm
  refine zh_iast o g15 g16 g17 dX1_setWord_31 e_S18 ?_
  refine zQ.s (fun h => zs_iload_n (i := 3) o dX1_setWord_32 rfl rfl) ?_
  refine zh_reti o f dX1_setWord_33 rfl (by omega) (by omega) ((so_e hm).trans hR9.symm)

def j_X1_setWidth (h : zH) (p : Nat) (a1 : Int32) : Option (zH × Int32) :=
  bd (j_X1_isBetween h a1 (1 : Int32) (4 : Int32)) fun y1 =>
  bd (j_X1_checkArgument y1.1 y1.2) fun y2 =>
  gd (kd y2 p 1) <|
  bd (j_X1_checkFresh y2 p) fun y4 =>
  gd (kd y4 p 1) <|
  lt (hI y4 1 5 p) fun v6 =>
  gd (kd y4 p 1) <|
  gd (wr y4 p) <|
  lt (pI y4 1 5 p a1) fun S9 =>
  some (S9, v6)

set_option maxHeartbeats 40000000 in
theorem J_X1_setWidth (G : zG) (h : zH) (p : Nat) (a1 : Int32) (V : Int32) (h9 : zH) (hm : j_X1_setWidth h p a1 = some (h9, V)) : zJi G yX1_setWidth cX1_setWidth 3 (some .int) 2 0 0 [zrf p, .int a1] h V h9 := by
  refine zCo.st [some (zrf p), some (.int a1), none] rfl rfl (by simp only [zarg_r, zarg_i, zarg_l, zarg_0]; rfl) (fun X o f0 hin hw0 => ?_)
  have f := f0.e
  have hin : (Xt X).name = "setWidth" := hin
  refine (?_ : zQ (EH h) G X 0 0 0 [some (zrf p), some (.int a1), none] []) h rfl hw0
  clear hw0
  generalize hR9 : ((h9, V) : (zH × Int32)) = R at hm
  unfold j_X1_setWidth at hm
  refine zQ.s (fun h => zs_iload_n (i := 1) o dX1_setWidth_0 rfl rfl) ?_
  refine zQ.s (fun h => zs_iconst (v := 1) o dX1_setWidth_1 (by decide)) ?_
  refine zQ.s (fun h => zs_iconst (v := 4) o dX1_setWidth_2 (by decide)) ?_
  obtain ⟨y1, c_y1, hm⟩ := bd_e hm
  refine zh_Si o ml_X1_3 (J_X1_isBetween G _ _ _ _ _ _  c_y1) dX1_setWidth_3 rfl rfl rfl rfl (by omega) (by omega) ?_
  obtain ⟨y2, c_y2, hm⟩ := bd_e hm
  refine zh_Sv o ml_X1_578 (J_X1_checkArgument G _ _ _  c_y2) dX1_setWidth_6 rfl rfl rfl rfl (by omega) (by omega) ?_
  refine zQ.s (fun h => zs_aload_n (i := 0) o dX1_setWidth_9 rfl rfl) ?_
  obtain ⟨g3, hm⟩ := gd_e hm
  obtain ⟨y4, c_y4, hm⟩ := bd_e hm
  refine zh_Vv o g3 ml_X1_581 (J_X1_checkFresh G _ _ _  c_y4) dX1_setWidth_10 rfl rfl rfl rfl (by omega) (by omega) ?_
  refine zQ.s (fun h => zs_aload_n (i := 0) o dX1_setWidth_13 rfl rfl) ?_
  obtain ⟨g5, hm⟩ := gd_e hm
  refine zh_getI o g5 fl_X1_37_1 rfl dX1_setWidth_14 ?_
  obtain ⟨v6, e_v6, hm⟩ := lt_e hm
  refine zQ.nmi e_v6 ?_
  refine zQ.s (fun h => zs_istore_n (i := 2) o dX1_setWidth_17 rfl (by decide) (Or.inr rfl) (by simp only [List.set_cons_succ, List.set_cons_zero]; rfl)) ?_
  refine zQ.s (fun h => zs_aload_n (i := 0) o dX1_setWidth_18 rfl rfl) ?_
  refine zQ.s (fun h => zs_iload_n (i := 1) o dX1_setWidth_19 rfl rfl) ?_
  obtain ⟨g7, hm⟩ := gd_e hm
  obtain ⟨g8, hm⟩ := gd_e hm
  obtain ⟨S9, e_S9, hm⟩ := lt_e hm
  refine zh_putI o g7 g8 fl_X1_37_1 rfl rfl ⟨rfl, rfl⟩ dX1_setWidth_20 e_S9 ?_
  refine zQ.s (fun h => zs_iload_n (i := 2) o dX1_setWidth_23 rfl rfl) ?_
  refine zh_reti o f dX1_setWidth_24 rfl (by omega) (by omega) ((so_e hm).trans hR9.symm)

def j_X1_setBuffer (h : zH) (p : Nat) (a1 : Int32) : Option (zH × Int32) :=
  bd (j_X1_isBetween h a1 (4 : Int32) (16 : Int32)) fun y1 =>
  bd (j_X1_checkArgument y1.1 y1.2) fun y2 =>
  gd (kd y2 p 1) <|
  bd (j_X1_checkFresh y2 p) fun y4 =>
  gd (kd y4 p 1) <|
  lt (hI y4 1 6 p) fun v6 =>
  gd (kd y4 p 1) <|
  gd (wr y4 p) <|
  lt (pI y4 1 6 p a1) fun S9 =>
  some (S9, v6)

set_option maxHeartbeats 40000000 in
theorem J_X1_setBuffer (G : zG) (h : zH) (p : Nat) (a1 : Int32) (V : Int32) (h9 : zH) (hm : j_X1_setBuffer h p a1 = some (h9, V)) : zJi G yX1_setBuffer cX1_setBuffer 3 (some .int) 2 0 0 [zrf p, .int a1] h V h9 := by
  refine zCo.st [some (zrf p), some (.int a1), none] rfl rfl (by simp only [zarg_r, zarg_i, zarg_l, zarg_0]; rfl) (fun X o f0 hin hw0 => ?_)
  have f := f0.e
  have hin : (Xt X).name = "setBuffer" := hin
  refine (?_ : zQ (EH h) G X 0 0 0 [some (zrf p), some (.int a1), none] []) h rfl hw0
  clear hw0
  generalize hR9 : ((h9, V) : (zH × Int32)) = R at hm
  unfold j_X1_setBuffer at hm
  refine zQ.s (fun h => zs_iload_n (i := 1) o dX1_setBuffer_0 rfl rfl) ?_
  refine zQ.s (fun h => zs_iconst (v := 4) o dX1_setBuffer_1 (by decide)) ?_
  refine zQ.s (fun h => zs_bipush (v := 16) o dX1_setBuffer_2 (by decide)) ?_
  obtain ⟨y1, c_y1, hm⟩ := bd_e hm
  refine zh_Si o ml_X1_3 (J_X1_isBetween G _ _ _ _ _ _  c_y1) dX1_setBuffer_4 rfl rfl rfl rfl (by omega) (by omega) ?_
  obtain ⟨y2, c_y2, hm⟩ := bd_e hm
  refine zh_Sv o ml_X1_578 (J_X1_checkArgument G _ _ _  c_y2) dX1_setBuffer_7 rfl rfl rfl rfl (by omega) (by omega) ?_
  refine zQ.s (fun h => zs_aload_n (i := 0) o dX1_setBuffer_10 rfl rfl) ?_
  obtain ⟨g3, hm⟩ := gd_e hm
  obtain ⟨y4, c_y4, hm⟩ := bd_e hm
  refine zh_Vv o g3 ml_X1_581 (J_X1_checkFresh G _ _ _  c_y4) dX1_setBuffer_11 rfl rfl rfl rfl (by omega) (by omega) ?_
  refine zQ.s (fun h => zs_aload_n (i := 0) o dX1_setBuffer_14 rfl rfl) ?_
  obtain ⟨g5, hm⟩ := gd_e hm
  refine zh_getI o g5 fl_X1_41_1 rfl dX1_setBuffer_15 ?_
  obtain ⟨v6, e_v6, hm⟩ := lt_e hm
  refine zQ.nmi e_v6 ?_
  refine zQ.s (fun h => zs_istore_n (i := 2) o dX1_setBuffer_18 rfl (by decide) (Or.inr rfl) (by simp only [List.set_cons_succ, List.set_cons_zero]; rfl)) ?_
  refine zQ.s (fun h => zs_aload_n (i := 0) o dX1_setBuffer_19 rfl rfl) ?_
  refine zQ.s (fun h => zs_iload_n (i := 1) o dX1_setBuffer_20 rfl rfl) ?_
  obtain ⟨g7, hm⟩ := gd_e hm
  obtain ⟨g8, hm⟩ := gd_e hm
  obtain ⟨S9, e_S9, hm⟩ := lt_e hm
  refine zh_putI o g7 g8 fl_X1_41_1 rfl rfl ⟨rfl, rfl⟩ dX1_setBuffer_21 e_S9 ?_
  refine zQ.s (fun h => zs_iload_n (i := 2) o dX1_setBuffer_24 rfl rfl) ?_
  refine zh_reti o f dX1_setBuffer_25 rfl (by omega) (by omega) ((so_e hm).trans hR9.symm)

def j_X1_setQueue (h : zH) (p : Nat) (a1 : Int32) : Option (zH × Int32) :=
  bd (j_X1_isBetween h a1 (2 : Int32) (8 : Int32)) fun y1 =>
  bd (j_X1_checkArgument y1.1 y1.2) fun y2 =>
  gd (kd y2 p 1) <|
  bd (j_X1_checkFresh y2 p) fun y4 =>
  gd (kd y4 p 1) <|
  lt (hI y4 1 7 p) fun v6 =>
  gd (kd y4 p 1) <|
  gd (wr y4 p) <|
  lt (pI y4 1 7 p a1) fun S9 =>
  some (S9, v6)

set_option maxHeartbeats 40000000 in
theorem J_X1_setQueue (G : zG) (h : zH) (p : Nat) (a1 : Int32) (V : Int32) (h9 : zH) (hm : j_X1_setQueue h p a1 = some (h9, V)) : zJi G yX1_setQueue cX1_setQueue 3 (some .int) 2 0 0 [zrf p, .int a1] h V h9 := by
  refine zCo.st [some (zrf p), some (.int a1), none] rfl rfl (by simp only [zarg_r, zarg_i, zarg_l, zarg_0]; rfl) (fun X o f0 hin hw0 => ?_)
  have f := f0.e
  have hin : (Xt X).name = "setQueue" := hin
  refine (?_ : zQ (EH h) G X 0 0 0 [some (zrf p), some (.int a1), none] []) h rfl hw0
  clear hw0
  generalize hR9 : ((h9, V) : (zH × Int32)) = R at hm
  unfold j_X1_setQueue at hm
  refine zQ.s (fun h => zs_iload_n (i := 1) o dX1_setQueue_0 rfl rfl) ?_
  refine zQ.s (fun h => zs_iconst (v := 2) o dX1_setQueue_1 (by decide)) ?_
  refine zQ.s (fun h => zs_bipush (v := 8) o dX1_setQueue_2 (by decide)) ?_
  obtain ⟨y1, c_y1, hm⟩ := bd_e hm
  refine zh_Si o ml_X1_3 (J_X1_isBetween G _ _ _ _ _ _  c_y1) dX1_setQueue_4 rfl rfl rfl rfl (by omega) (by omega) ?_
  obtain ⟨y2, c_y2, hm⟩ := bd_e hm
  refine zh_Sv o ml_X1_578 (J_X1_checkArgument G _ _ _  c_y2) dX1_setQueue_7 rfl rfl rfl rfl (by omega) (by omega) ?_
  refine zQ.s (fun h => zs_aload_n (i := 0) o dX1_setQueue_10 rfl rfl) ?_
  obtain ⟨g3, hm⟩ := gd_e hm
  obtain ⟨y4, c_y4, hm⟩ := bd_e hm
  refine zh_Vv o g3 ml_X1_581 (J_X1_checkFresh G _ _ _  c_y4) dX1_setQueue_11 rfl rfl rfl rfl (by omega) (by omega) ?_
  refine zQ.s (fun h => zs_aload_n (i := 0) o dX1_setQueue_14 rfl rfl) ?_
  obtain ⟨g5, hm⟩ := gd_e hm
  refine zh_getI o g5 fl_X1_44_1 rfl dX1_setQueue_15 ?_
  obtain ⟨v6, e_v6, hm⟩ := lt_e hm
  refine zQ.nmi e_v6 ?_
  refine zQ.s (fun h => zs_istore_n (i := 2) o dX1_setQueue_18 rfl (by decide) (Or.inr rfl) (by simp only [List.set_cons_succ, List.set_cons_zero]; rfl)) ?_
  refine zQ.s (fun h => zs_aload_n (i := 0) o dX1_setQueue_19 rfl rfl) ?_
  refine zQ.s (fun h => zs_iload_n (i := 1) o dX1_setQueue_20 rfl rfl) ?_
  obtain ⟨g7, hm⟩ := gd_e hm
  obtain ⟨g8, hm⟩ := gd_e hm
  obtain ⟨S9, e_S9, hm⟩ := lt_e hm
  refine zh_putI o g7 g8 fl_X1_44_1 rfl rfl ⟨rfl, rfl⟩ dX1_setQueue_21 e_S9 ?_
  refine zQ.s (fun h => zs_iload_n (i := 2) o dX1_setQueue_24 rfl rfl) ?_
  refine zh_reti o f dX1_setQueue_25 rfl (by omega) (by omega) ((so_e hm).trans hR9.symm)

def j_X1_setInner (h : zH) (p : Nat) (a1 : Int32) (ic : Nat) : Option (zH × Int32) :=
  bd (j_X1_isBetween h a1 (10 : Int32) (24 : Int32)) fun y1 =>
  bd (j_X1_checkArgument y1.1 y1.2) fun y2 =>
  gd (kd y2 p 1) <|
  bd (j_X1_checkFresh y2 p) fun y4 =>
  gd (kd y4 p 1) <|
  lt (hI y4 1 8 p) fun v6 =>
  gd (kd y4 p 1) <|
  gd (wr y4 p) <|
  lt (pI y4 1 8 p a1) fun S9 =>
  gd (kd S9 p 1) <|
  bd (j_X1_freeFrom S9 p ic) fun y11 =>
  some (y11, v6)

set_option maxHeartbeats 40000000 in
theorem J_X1_setInner (G : zG) (h : zH) (p : Nat) (a1 : Int32) (ic : Nat) (V : Int32) (h9 : zH) (z_ih : ("java/lang/Integer$IntegerCache", "high", "I", .int 127) ∈ zGz G) (z_ic : ("java/lang/Integer$IntegerCache", "cache", "[Ljava/lang/Integer;", zrf ic) ∈ zGz G) (hm : j_X1_setInner h p a1 ic = some (h9, V)) : zJi G yX1_setInner cX1_setInner 3 (some .int) 3 17 17 [zrf p, .int a1] h V h9 := by
  refine zCo.st [some (zrf p), some (.int a1), none] rfl rfl (by simp only [zarg_r, zarg_i, zarg_l, zarg_0]; rfl) (fun X o f0 hin hw0 => ?_)
  have f := f0.e
  have hin : (Xt X).name = "setInner" := hin
  refine (?_ : zQ (EH h) G X 0 0 0 [some (zrf p), some (.int a1), none] []) h rfl hw0
  clear hw0
  generalize hR9 : ((h9, V) : (zH × Int32)) = R at hm
  unfold j_X1_setInner at hm
  refine zQ.s (fun h => zs_iload_n (i := 1) o dX1_setInner_0 rfl rfl) ?_
  refine zQ.s (fun h => zs_bipush (v := 10) o dX1_setInner_1 (by decide)) ?_
  refine zQ.s (fun h => zs_bipush (v := 24) o dX1_setInner_3 (by decide)) ?_
  obtain ⟨y1, c_y1, hm⟩ := bd_e hm
  refine zh_Si o ml_X1_3 (J_X1_isBetween G _ _ _ _ _ _  c_y1) dX1_setInner_5 rfl rfl rfl rfl (by omega) (by omega) ?_
  obtain ⟨y2, c_y2, hm⟩ := bd_e hm
  refine zh_Sv o ml_X1_578 (J_X1_checkArgument G _ _ _  c_y2) dX1_setInner_8 rfl rfl rfl rfl (by omega) (by omega) ?_
  refine zQ.s (fun h => zs_aload_n (i := 0) o dX1_setInner_11 rfl rfl) ?_
  obtain ⟨g3, hm⟩ := gd_e hm
  obtain ⟨y4, c_y4, hm⟩ := bd_e hm
  refine zh_Vv o g3 ml_X1_581 (J_X1_checkFresh G _ _ _  c_y4) dX1_setInner_12 rfl rfl rfl rfl (by omega) (by omega) ?_
  refine zQ.s (fun h => zs_aload_n (i := 0) o dX1_setInner_15 rfl rfl) ?_
  obtain ⟨g5, hm⟩ := gd_e hm
  refine zh_getI o g5 fl_X1_47_1 rfl dX1_setInner_16 ?_
  obtain ⟨v6, e_v6, hm⟩ := lt_e hm
  refine zQ.nmi e_v6 ?_
  refine zQ.s (fun h => zs_istore_n (i := 2) o dX1_setInner_19 rfl (by decide) (Or.inr rfl) (by simp only [List.set_cons_succ, List.set_cons_zero]; rfl)) ?_
  refine zQ.s (fun h => zs_aload_n (i := 0) o dX1_setInner_20 rfl rfl) ?_
  refine zQ.s (fun h => zs_iload_n (i := 1) o dX1_setInner_21 rfl rfl) ?_
  obtain ⟨g7, hm⟩ := gd_e hm
  obtain ⟨g8, hm⟩ := gd_e hm
  obtain ⟨S9, e_S9, hm⟩ := lt_e hm
  refine zh_putI o g7 g8 fl_X1_47_1 rfl rfl ⟨rfl, rfl⟩ dX1_setInner_22 e_S9 ?_
  refine zQ.s (fun h => zs_aload_n (i := 0) o dX1_setInner_25 rfl rfl) ?_
  obtain ⟨g10, hm⟩ := gd_e hm
  obtain ⟨y11, c_y11, hm⟩ := bd_e hm
  refine zh_Vv o g10 ml_X1_125 (J_X1_freeFrom G _ _ _ _ z_ih z_ic c_y11) dX1_setInner_26 rfl rfl rfl rfl (by omega) (by omega) ?_
  refine zQ.s (fun h => zs_iload_n (i := 2) o dX1_setInner_29 rfl rfl) ?_
  refine zh_reti o f dX1_setInner_30 rfl (by omega) (by omega) ((so_e hm).trans hR9.symm)

def j_X1_setHandlers_j25 (h : zH) (x0 : Nat) (x1 : Int32) (x2 : Int32) (s0 : Int32) : Option (zH × Int32) :=
  bd (j_X1_checkArgument h s0) fun y1 =>
  gd (kd y1 x0 1) <|
  bd (j_X1_checkFresh y1 x0) fun y3 =>
  gd (kd y3 x0 1) <|
  gd (kd y3 (hR y3 1 4 x0) 2) <|
  gd (kd y3 x0 1) <|
  gd (kd y3 (hR y3 1 4 x0) 2) <|
  lt (((64 : Int32) * (hI y3 2 0 (hR y3 1 4 x0))) + (hI y3 2 1 (hR y3 1 4 x0))) fun v8 =>
  gd (kd y3 x0 1) <|
  gd (kd y3 (hR y3 1 4 x0) 2) <|
  gd (wr y3 (hR y3 1 4 x0)) <|
  lt (pI y3 2 0 (hR y3 1 4 x0) x1) fun S12 =>
  gd (kd S12 x0 1) <|
  gd (kd S12 (hR S12 1 4 x0) 2) <|
  gd (wr S12 (hR S12 1 4 x0)) <|
  lt (pI S12 2 1 (hR S12 1 4 x0) x2) fun S16 =>
  some (S16, v8)
def j_X1_setHandlers_j24 (h : zH) (x0 : Nat) (x1 : Int32) (x2 : Int32) : Option (zH × Int32) :=
  j_X1_setHandlers_j25 h x0 x1 x2 (0 : Int32)
def j_X1_setHandlers (h : zH) (p : Nat) (a1 : Int32) (a2 : Int32) : Option (zH × Int32) :=
  bd (j_X1_isBetween h a1 (-1 : Int32) (63 : Int32)) fun y1 =>
  if y1.2 = (0 : Int32) then
    j_X1_setHandlers_j24 y1.1 p a1 a2
  else
    bd (j_X1_isBetween y1.1 a2 (-1 : Int32) (63 : Int32)) fun y2 =>
    if y2.2 = (0 : Int32) then
      j_X1_setHandlers_j24 y2.1 p a1 a2
    else
      j_X1_setHandlers_j25 y2.1 p a1 a2 (1 : Int32)

set_option maxHeartbeats 40000000 in
theorem J_X1_setHandlers (G : zG) (h : zH) (p : Nat) (a1 : Int32) (a2 : Int32) (V : Int32) (h9 : zH) (hm : j_X1_setHandlers h p a1 a2 = some (h9, V)) : zJi G yX1_setHandlers cX1_setHandlers 4 (some .int) 2 0 0 [zrf p, .int a1, .int a2] h V h9 := by
  refine zCo.st [some (zrf p), some (.int a1), some (.int a2), none] rfl rfl (by simp only [zarg_r, zarg_i, zarg_l, zarg_0]; rfl) (fun X o f0 hin hw0 => ?_)
  have f := f0.e
  have hin : (Xt X).name = "setHandlers" := hin
  refine (?_ : zQ (EH h) G X 0 0 0 [some (zrf p), some (.int a1), some (.int a2), none] []) h rfl hw0
  clear hw0
  generalize hR9 : ((h9, V) : (zH × Int32)) = R at hm
  have hj25 : ∀ (h : zH) (x0 : Nat) (x1 : Int32) (x2 : Int32) (s0 : Int32) (cl sl : Nat), cl + (0) ≤ 0 → sl + (0) ≤ 0 → j_X1_setHandlers_j25 h x0 x1 x2 s0 = some R → zQ (EH h) G X cl sl 25 [some (zrf x0), some (.int x1), some (.int x2), none] [.int s0] := by
    intro h x0 x1 x2 s0 cl sl hc hs hm
    unfold j_X1_setHandlers_j25 at hm
    obtain ⟨y1, c_y1, hm⟩ := bd_e hm
    refine zh_Sv o ml_X1_578 (J_X1_checkArgument G _ _ _  c_y1) dX1_setHandlers_25 rfl rfl rfl rfl (by omega) (by omega) ?_
    refine zQ.s (fun h => zs_aload_n (i := 0) o dX1_setHandlers_28 rfl rfl) ?_
    obtain ⟨g2, hm⟩ := gd_e hm
    obtain ⟨y3, c_y3, hm⟩ := bd_e hm
    refine zh_Vv o g2 ml_X1_581 (J_X1_checkFresh G _ _ _  c_y3) dX1_setHandlers_29 rfl rfl rfl rfl (by omega) (by omega) ?_
    refine zQ.s (fun h => zs_bipush (v := 64) o dX1_setHandlers_32 (by decide)) ?_
    refine zQ.s (fun h => zs_aload_n (i := 0) o dX1_setHandlers_34 rfl rfl) ?_
    obtain ⟨g4, hm⟩ := gd_e hm
    refine zh_getR o g4 fl_X1_33_1 rfl dX1_setHandlers_35 ?_
    obtain ⟨g5, hm⟩ := gd_e hm
    refine zh_getI o g5 fl_X1_587_2 rfl dX1_setHandlers_38 ?_
    refine zQ.s (fun h => zs_imul o dX1_setHandlers_41) ?_
    refine zQ.s (fun h => zs_aload_n (i := 0) o dX1_setHandlers_42 rfl rfl) ?_
    obtain ⟨g6, hm⟩ := gd_e hm
    refine zh_getR o g6 fl_X1_33_1 rfl dX1_setHandlers_43 ?_
    obtain ⟨g7, hm⟩ := gd_e hm
    refine zh_getI o g7 fl_X1_372_2 rfl dX1_setHandlers_46 ?_
    refine zQ.s (fun h => zs_iadd o dX1_setHandlers_49) ?_
    obtain ⟨v8, e_v8, hm⟩ := lt_e hm
    refine zQ.nmi e_v8 ?_
    refine zQ.s (fun h => zs_istore_n (i := 3) o dX1_setHandlers_50 rfl (by decide) (Or.inr rfl) (by simp only [List.set_cons_succ, List.set_cons_zero]; rfl)) ?_
    refine zQ.s (fun h => zs_aload_n (i := 0) o dX1_setHandlers_51 rfl rfl) ?_
    obtain ⟨g9, hm⟩ := gd_e hm
    refine zh_getR o g9 fl_X1_33_1 rfl dX1_setHandlers_52 ?_
    refine zQ.s (fun h => zs_iload_n (i := 1) o dX1_setHandlers_55 rfl rfl) ?_
    obtain ⟨g10, hm⟩ := gd_e hm
    obtain ⟨g11, hm⟩ := gd_e hm
    obtain ⟨S12, e_S12, hm⟩ := lt_e hm
    refine zh_putI o g10 g11 fl_X1_587_2 rfl rfl ⟨rfl, rfl⟩ dX1_setHandlers_56 e_S12 ?_
    refine zQ.s (fun h => zs_aload_n (i := 0) o dX1_setHandlers_59 rfl rfl) ?_
    obtain ⟨g13, hm⟩ := gd_e hm
    refine zh_getR o g13 fl_X1_33_1 rfl dX1_setHandlers_60 ?_
    refine zQ.s (fun h => zs_iload_n (i := 2) o dX1_setHandlers_63 rfl rfl) ?_
    obtain ⟨g14, hm⟩ := gd_e hm
    obtain ⟨g15, hm⟩ := gd_e hm
    obtain ⟨S16, e_S16, hm⟩ := lt_e hm
    refine zh_putI o g14 g15 fl_X1_372_2 rfl rfl ⟨rfl, rfl⟩ dX1_setHandlers_64 e_S16 ?_
    refine zQ.s (fun h => zs_iload_n (i := 3) o dX1_setHandlers_67 rfl rfl) ?_
    refine zh_reti o f dX1_setHandlers_68 rfl (by omega) (by omega) ((so_e hm).trans hR9.symm)
  have hj24 : ∀ (h : zH) (x0 : Nat) (x1 : Int32) (x2 : Int32) (cl sl : Nat), cl + (0) ≤ 0 → sl + (0) ≤ 0 → j_X1_setHandlers_j24 h x0 x1 x2 = some R → zQ (EH h) G X cl sl 24 [some (zrf x0), some (.int x1), some (.int x2), none] [] := by
    intro h x0 x1 x2 cl sl hc hs hm
    unfold j_X1_setHandlers_j24 at hm
    refine zQ.s (fun h => zs_iconst (v := 0) o dX1_setHandlers_24 (by decide)) ?_
    exact hj25 _ _ _ _ _ _ _ (by omega) (by omega) hm
  unfold j_X1_setHandlers at hm
  refine zQ.s (fun h => zs_iload_n (i := 1) o dX1_setHandlers_0 rfl rfl) ?_
  refine zQ.s (fun h => zs_iconst (v := -1) o dX1_setHandlers_1 (by decide)) ?_
  refine zQ.s (fun h => zs_bipush (v := 63) o dX1_setHandlers_2 (by decide)) ?_
  obtain ⟨y1, c_y1, hm⟩ := bd_e hm
  refine zh_Si o ml_X1_3 (J_X1_isBetween G _ _ _ _ _ _  c_y1) dX1_setHandlers_4 rfl rfl rfl rfl (by omega) (by omega) ?_
  refine zQ.b (fun h => zs_if_eq (tgt := 24) o dX1_setHandlers_7 (by decide)) (fun c => ?_) (fun c => ?_)
  · have hm := if_e1 hm c
    exact hj24 _ _ _ _ _ _ (by omega) (by omega) hm
  · have hm := if_e2 hm c
    refine zQ.s (fun h => zs_iload_n (i := 2) o dX1_setHandlers_10 rfl rfl) ?_
    refine zQ.s (fun h => zs_iconst (v := -1) o dX1_setHandlers_11 (by decide)) ?_
    refine zQ.s (fun h => zs_bipush (v := 63) o dX1_setHandlers_12 (by decide)) ?_
    obtain ⟨y2, c_y2, hm⟩ := bd_e hm
    refine zh_Si o ml_X1_3 (J_X1_isBetween G _ _ _ _ _ _  c_y2) dX1_setHandlers_14 rfl rfl rfl rfl (by omega) (by omega) ?_
    refine zQ.b (fun h => zs_if_eq (tgt := 24) o dX1_setHandlers_17 (by decide)) (fun c => ?_) (fun c => ?_)
    · have hm := if_e1 hm c
      exact hj24 _ _ _ _ _ _ (by omega) (by omega) hm
    · have hm := if_e2 hm c
      refine zQ.s (fun h => zs_iconst (v := 1) o dX1_setHandlers_20 (by decide)) ?_
      refine zQ.s (fun h => zs_goto (tgt := 25) o dX1_setHandlers_21 (by decide)) ?_
      exact hj25 _ _ _ _ _ _ _ (by omega) (by omega) hm

def j_X1_setTime_j25 (h : zH) (x0 : Nat) (x1 : Int32) (x2 : Int32) (s0 : Int32) : Option (zH × Int32) :=
  bd (j_X1_checkArgument h s0) fun y1 =>
  gd (kd y1 x0 1) <|
  gd (kd y1 (hR y1 1 23 x0) 201) <|
  gd (inb x1 (zN y1 (hR y1 1 23 x0))) <|
  lt (hI y1 201 (ix x1) (hR y1 1 23 x0)) fun v5 =>
  gd (kd y1 x0 1) <|
  gd (kd y1 (hR y1 1 23 x0) 201) <|
  gd (wr y1 (hR y1 1 23 x0)) <|
  gd (inb x1 (zN y1 (hR y1 1 23 x0))) <|
  lt (pI y1 201 (ix x1) (hR y1 1 23 x0) x2) fun S10 =>
  some (S10, v5)
def j_X1_setTime_j24 (h : zH) (x0 : Nat) (x1 : Int32) (x2 : Int32) : Option (zH × Int32) :=
  j_X1_setTime_j25 h x0 x1 x2 (0 : Int32)
def j_X1_setTime (h : zH) (p : Nat) (a1 : Int32) (a2 : Int32) : Option (zH × Int32) :=
  bd (j_X1_isBetween h a1 (0 : Int32) (15 : Int32)) fun y1 =>
  if y1.2 = (0 : Int32) then
    j_X1_setTime_j24 y1.1 p a1 a2
  else
    bd (j_X1_isBetween y1.1 a2 (1 : Int32) (30 : Int32)) fun y2 =>
    if y2.2 = (0 : Int32) then
      j_X1_setTime_j24 y2.1 p a1 a2
    else
      j_X1_setTime_j25 y2.1 p a1 a2 (1 : Int32)

set_option maxHeartbeats 40000000 in
theorem J_X1_setTime (G : zG) (h : zH) (p : Nat) (a1 : Int32) (a2 : Int32) (V : Int32) (h9 : zH) (hm : j_X1_setTime h p a1 a2 = some (h9, V)) : zJi G yX1_setTime cX1_setTime 4 (some .int) 1 0 0 [zrf p, .int a1, .int a2] h V h9 := by
  refine zCo.st [some (zrf p), some (.int a1), some (.int a2), none] rfl rfl (by simp only [zarg_r, zarg_i, zarg_l, zarg_0]; rfl) (fun X o f0 hin hw0 => ?_)
  have f := f0.e
  have hin : (Xt X).name = "setTime" := hin
  refine (?_ : zQ (EH h) G X 0 0 0 [some (zrf p), some (.int a1), some (.int a2), none] []) h rfl hw0
  clear hw0
  generalize hR9 : ((h9, V) : (zH × Int32)) = R at hm
  have hj25 : ∀ (h : zH) (x0 : Nat) (x1 : Int32) (x2 : Int32) (s0 : Int32) (cl sl : Nat), cl + (0) ≤ 0 → sl + (0) ≤ 0 → j_X1_setTime_j25 h x0 x1 x2 s0 = some R → zQ (EH h) G X cl sl 25 [some (zrf x0), some (.int x1), some (.int x2), none] [.int s0] := by
    intro h x0 x1 x2 s0 cl sl hc hs hm
    unfold j_X1_setTime_j25 at hm
    obtain ⟨y1, c_y1, hm⟩ := bd_e hm
    refine zh_Sv o ml_X1_578 (J_X1_checkArgument G _ _ _  c_y1) dX1_setTime_25 rfl rfl rfl rfl (by omega) (by omega) ?_
    refine zQ.s (fun h => zs_aload_n (i := 0) o dX1_setTime_28 rfl rfl) ?_
    obtain ⟨g2, hm⟩ := gd_e hm
    refine zh_getR o g2 fl_X1_98_1 rfl dX1_setTime_29 ?_
    refine zQ.s (fun h => zs_iload_n (i := 1) o dX1_setTime_32 rfl rfl) ?_
    obtain ⟨g3, hm⟩ := gd_e hm
    obtain ⟨g4, hm⟩ := gd_e hm
    refine zh_iald o g3 g4 dX1_setTime_33 ?_
    obtain ⟨v5, e_v5, hm⟩ := lt_e hm
    refine zQ.nmi e_v5 ?_
    refine zQ.s (fun h => zs_istore_n (i := 3) o dX1_setTime_34 rfl (by decide) (Or.inr rfl) (by simp only [List.set_cons_succ, List.set_cons_zero]; rfl)) ?_
    refine zQ.s (fun h => zs_aload_n (i := 0) o dX1_setTime_35 rfl rfl) ?_
    obtain ⟨g6, hm⟩ := gd_e hm
    refine zh_getR o g6 fl_X1_98_1 rfl dX1_setTime_36 ?_
    refine zQ.s (fun h => zs_iload_n (i := 1) o dX1_setTime_39 rfl rfl) ?_
    refine zQ.s (fun h => zs_iload_n (i := 2) o dX1_setTime_40 rfl rfl) ?_
    obtain ⟨g7, hm⟩ := gd_e hm
    obtain ⟨g8, hm⟩ := gd_e hm
    obtain ⟨g9, hm⟩ := gd_e hm
    obtain ⟨S10, e_S10, hm⟩ := lt_e hm
    refine zh_iast o g7 g8 g9 dX1_setTime_41 e_S10 ?_
    refine zQ.s (fun h => zs_iload_n (i := 3) o dX1_setTime_42 rfl rfl) ?_
    refine zh_reti o f dX1_setTime_43 rfl (by omega) (by omega) ((so_e hm).trans hR9.symm)
  have hj24 : ∀ (h : zH) (x0 : Nat) (x1 : Int32) (x2 : Int32) (cl sl : Nat), cl + (0) ≤ 0 → sl + (0) ≤ 0 → j_X1_setTime_j24 h x0 x1 x2 = some R → zQ (EH h) G X cl sl 24 [some (zrf x0), some (.int x1), some (.int x2), none] [] := by
    intro h x0 x1 x2 cl sl hc hs hm
    unfold j_X1_setTime_j24 at hm
    refine zQ.s (fun h => zs_iconst (v := 0) o dX1_setTime_24 (by decide)) ?_
    exact hj25 _ _ _ _ _ _ _ (by omega) (by omega) hm
  unfold j_X1_setTime at hm
  refine zQ.s (fun h => zs_iload_n (i := 1) o dX1_setTime_0 rfl rfl) ?_
  refine zQ.s (fun h => zs_iconst (v := 0) o dX1_setTime_1 (by decide)) ?_
  refine zQ.s (fun h => zs_bipush (v := 15) o dX1_setTime_2 (by decide)) ?_
  obtain ⟨y1, c_y1, hm⟩ := bd_e hm
  refine zh_Si o ml_X1_3 (J_X1_isBetween G _ _ _ _ _ _  c_y1) dX1_setTime_4 rfl rfl rfl rfl (by omega) (by omega) ?_
  refine zQ.b (fun h => zs_if_eq (tgt := 24) o dX1_setTime_7 (by decide)) (fun c => ?_) (fun c => ?_)
  · have hm := if_e1 hm c
    exact hj24 _ _ _ _ _ _ (by omega) (by omega) hm
  · have hm := if_e2 hm c
    refine zQ.s (fun h => zs_iload_n (i := 2) o dX1_setTime_10 rfl rfl) ?_
    refine zQ.s (fun h => zs_iconst (v := 1) o dX1_setTime_11 (by decide)) ?_
    refine zQ.s (fun h => zs_bipush (v := 30) o dX1_setTime_12 (by decide)) ?_
    obtain ⟨y2, c_y2, hm⟩ := bd_e hm
    refine zh_Si o ml_X1_3 (J_X1_isBetween G _ _ _ _ _ _  c_y2) dX1_setTime_14 rfl rfl rfl rfl (by omega) (by omega) ?_
    refine zQ.b (fun h => zs_if_eq (tgt := 24) o dX1_setTime_17 (by decide)) (fun c => ?_) (fun c => ?_)
    · have hm := if_e1 hm c
      exact hj24 _ _ _ _ _ _ (by omega) (by omega) hm
    · have hm := if_e2 hm c
      refine zQ.s (fun h => zs_iconst (v := 1) o dX1_setTime_20 (by decide)) ?_
      refine zQ.s (fun h => zs_goto (tgt := 25) o dX1_setTime_21 (by decide)) ?_
      exact hj25 _ _ _ _ _ _ _ (by omega) (by omega) hm

def j_X1_interrupt (h : zH) (p : Nat) : Option (zH × Int32) :=
  gd (kd h p 1) <|
  lt (hI h 1 28 p) fun v2 =>
  gd (kd h p 1) <|
  gd (wr h p) <|
  lt (pI h 1 28 p (1 : Int32)) fun S5 =>
  gd (b01 v2) <|
  some (S5, v2)

set_option maxHeartbeats 40000000 in
theorem J_X1_interrupt (G : zG) (h : zH) (p : Nat) (V : Int32) (h9 : zH) (hm : j_X1_interrupt h p = some (h9, V)) : zJi G yX1_interrupt cX1_interrupt 2 (some .boolean) 0 0 0 [zrf p] h V h9 := by
  refine zCo.st [some (zrf p), none] rfl rfl (by simp only [zarg_r, zarg_i, zarg_l, zarg_0]; rfl) (fun X o f0 hin hw0 => ?_)
  have f := f0.e
  have hin : (Xt X).name = "interrupt" := hin
  refine (?_ : zQ (EH h) G X 0 0 0 [some (zrf p), none] []) h rfl hw0
  clear hw0
  generalize hR9 : ((h9, V) : (zH × Int32)) = R at hm
  unfold j_X1_interrupt at hm
  refine zQ.s (fun h => zs_aload_n (i := 0) o dX1_interrupt_0 rfl rfl) ?_
  obtain ⟨g1, hm⟩ := gd_e hm
  refine zh_getI o g1 fl_X1_369_1 rfl dX1_interrupt_1 ?_
  obtain ⟨v2, e_v2, hm⟩ := lt_e hm
  refine zQ.nmi e_v2 ?_
  refine zQ.s (fun h => zs_istore_n (i := 1) o dX1_interrupt_4 rfl (by decide) (Or.inr (zc2_ref rfl)) (by simp only [List.set_cons_succ, List.set_cons_zero]; rfl)) ?_
  refine zQ.s (fun h => zs_aload_n (i := 0) o dX1_interrupt_5 rfl rfl) ?_
  refine zQ.s (fun h => zs_iconst (v := 1) o dX1_interrupt_6 (by decide)) ?_
  obtain ⟨g3, hm⟩ := gd_e hm
  obtain ⟨g4, hm⟩ := gd_e hm
  obtain ⟨S5, e_S5, hm⟩ := lt_e hm
  refine zh_putI o g3 g4 fl_X1_369_1 rfl rfl ⟨rfl, rfl⟩ dX1_interrupt_7 e_S5 ?_
  refine zQ.s (fun h => zs_iload_n (i := 1) o dX1_interrupt_10 rfl rfl) ?_
  obtain ⟨g6, hm⟩ := gd_e hm
  refine zh_reti o f dX1_interrupt_11 (b01_e g6).1 (by omega) (by omega) ((so_e hm).trans hR9.symm)

def j_X1_run_j79 (h : zH) (e0 : Nat) (ic : Nat) (sp : Nat) (cm : Nat) (B : Nat) (N : Nat) (x0 : Nat) (x2 : Int32) : Option (zH × Int32) :=
  gd (kd h x0 1) <|
  gd (kd h (hR h 1 30 x0) 10) <|
  bd (j_J2_size h (hR h 1 30 x0)) fun y3 =>
  some (y3.1, y3.2 - x2)
def j_X1_run_b57 (k57 : zH → Nat → Nat → Nat → Nat → Nat → Nat → Nat → Int32 → Int32 → Int32 → Option (zH × Int32)) (h : zH) (e0 : Nat) (ic : Nat) (sp : Nat) (cm : Nat) (B : Nat) (N : Nat) (x0 : Nat) (x1 : Int32) (x2 : Int32) (x3 : Int32) : Option (zH × Int32) :=
  if x1 ≤ x3 then
    j_X1_run_j79 h e0 ic sp cm B N x0 x2
  else
    gd (kd h x0 1) <|
    if (hI h 1 29 x0) = (0 : Int32) then
      gd (kd h x0 1) <|
      bd (j_X1_pass h x0 e0 ic sp cm B) fun y3 =>
      k57 y3 e0 ic sp cm B N x0 x1 x2 (x3 + (1 : Int32))
    else
      j_X1_run_j79 h e0 ic sp cm B N x0 x2
def j_X1_run_l57 : Nat → zH → Nat → Nat → Nat → Nat → Nat → Nat → Nat → Int32 → Int32 → Int32 → Option (zH × Int32)
  | 0 => fun _ _ _ _ _ _ _ _ _ _ _ => none
  | n + 1 => j_X1_run_b57 (j_X1_run_l57 n)
def j_X1_run_j42 (h : zH) (e0 : Nat) (ic : Nat) (sp : Nat) (cm : Nat) (B : Nat) (N : Nat) (x0 : Nat) (x1 : Int32) (s0 : Int32) : Option (zH × Int32) :=
  bd (j_X1_checkState h s0) fun y1 =>
  gd (kd y1 x0 1) <|
  gd (kd y1 (hR y1 1 30 x0) 10) <|
  bd (j_J2_size y1 (hR y1 1 30 x0)) fun y4 =>
  j_X1_run_l57 N y4.1 e0 ic sp cm B N x0 x1 y4.2 (0 : Int32)
def j_X1_run_j27 (h : zH) (e0 : Nat) (ic : Nat) (sp : Nat) (cm : Nat) (B : Nat) (N : Nat) (x0 : Nat) (x1 : Int32) (s0 : Int32) : Option (zH × Int32) :=
  bd (j_X1_checkArgument h s0) fun y1 =>
  gd (kd y1 x0 1) <|
  if (hI y1 1 29 x0) = (0 : Int32) then
    j_X1_run_j42 y1 e0 ic sp cm B N x0 x1 (1 : Int32)
  else
    j_X1_run_j42 y1 e0 ic sp cm B N x0 x1 (0 : Int32)
def j_X1_run_j26 (h : zH) (e0 : Nat) (ic : Nat) (sp : Nat) (cm : Nat) (B : Nat) (N : Nat) (x0 : Nat) (x1 : Int32) : Option (zH × Int32) :=
  j_X1_run_j27 h e0 ic sp cm B N x0 x1 (0 : Int32)
def j_X1_run (h : zH) (p : Nat) (a1 : Int32) (e0 : Nat) (ic : Nat) (sp : Nat) (cm : Nat) (B : Nat) (N : Nat) : Option (zH × Int32) :=
  bd (j_X1_isBetween h a1 (1 : Int32) (60 : Int32)) fun y1 =>
  if y1.2 = (0 : Int32) then
    j_X1_run_j26 y1.1 e0 ic sp cm B N p a1
  else
    gd (kd y1.1 p 1) <|
    if (500 : Int32) < ((hI y1.1 1 26 p) + a1) then
      j_X1_run_j26 y1.1 e0 ic sp cm B N p a1
    else
      j_X1_run_j27 y1.1 e0 ic sp cm B N p a1 (1 : Int32)

set_option maxHeartbeats 40000000 in
theorem J_X1_run (G : zG) (h : zH) (p : Nat) (a1 : Int32) (e0 : Nat) (ic : Nat) (sp : Nat) (cm : Nat) (B : Nat) (N : Nat) (V : Int32) (h9 : zH) (z_e0 : ("java/util/ArrayList", "DEFAULTCAPACITY_EMPTY_ELEMENTDATA", "[Ljava/lang/Object;", zrf e0) ∈ zGz G) (z_ih : ("java/lang/Integer$IntegerCache", "high", "I", .int 127) ∈ zGz G) (z_ic : ("java/lang/Integer$IntegerCache", "cache", "[Ljava/lang/Integer;", zrf ic) ∈ zGz G) (z_ad : ("java/util/BitSet", "$assertionsDisabled", "Z", .int 1) ∈ zGz G) (z_cs : ("java/lang/String", "COMPACT_STRINGS", "Z", .int 1) ∈ zGz G) (z_sp : sp = zGs G + 1) (z_cm : cm = zGm G + 1) (hm : j_X1_run h p a1 e0 ic sp cm B N = some (h9, V)) : zJi G yX1_run cX1_run 4 (some .int) 11 (N * (605) + 0) (N * (1765 + 5 * B) + 0) [zrf p, .int a1] h V h9 := by
  refine zCo.st [some (zrf p), some (.int a1), none, none] rfl rfl (by simp only [zarg_r, zarg_i, zarg_l, zarg_0]; rfl) (fun X o f0 hin hw0 => ?_)
  have f := f0.e
  have hin : (Xt X).name = "run" := hin
  refine (?_ : zQ (EH h) G X 0 0 0 [some (zrf p), some (.int a1), none, none] []) h rfl hw0
  clear hw0
  generalize hR9 : ((h9, V) : (zH × Int32)) = R at hm
  have hj79 : ∀ (h : zH) (x0 : Nat) (x2 : Int32) (cl sl : Nat), cl + (0) ≤ (N * (605) + 0) → sl + (0) ≤ (N * (1765 + 5 * B) + 0) → j_X1_run_j79 h e0 ic sp cm B N x0 x2 = some R → zQ (EH h) G X cl sl 79 [some (zrf x0), none, some (.int x2), none] [] := by
    intro h x0 x2 cl sl hc hs hm
    unfold j_X1_run_j79 at hm
    refine zQ.s (fun h => zs_aload_n (i := 0) o dX1_run_79 rfl rfl) ?_
    obtain ⟨g1, hm⟩ := gd_e hm
    refine zh_getR o g1 fl_X1_107_1 rfl dX1_run_80 ?_
    obtain ⟨g2, hm⟩ := gd_e hm
    obtain ⟨y3, c_y3, hm⟩ := bd_e hm
    refine zh_Fi o g2 ml_X1_543_10 (J_J2_size G _ _ _ _  c_y3) dX1_run_83 rfl rfl rfl rfl (by omega) (by omega) ?_
    refine zQ.s (fun h => zs_iload_n (i := 2) o dX1_run_88 rfl rfl) ?_
    refine zQ.s (fun h => zs_isub o dX1_run_89) ?_
    refine zh_reti o f dX1_run_90 rfl (by omega) (by omega) ((so_e hm).trans hR9.symm)
  have hl57 : ∀ (n57 : Nat), n57 ≤ N → ∀ (h : zH) (x0 : Nat) (x1 : Int32) (x2 : Int32) (x3 : Int32) (cl sl : Nat), cl + (n57 * 605 + 0) ≤ (N * (605) + 0) → sl + (n57 * (1765 + 5 * B) + 0) ≤ (N * (1765 + 5 * B) + 0) → j_X1_run_l57 n57 h e0 ic sp cm B N x0 x1 x2 x3 = some R → zQ (EH h) G X cl sl 57 [some (zrf x0), some (.int x1), some (.int x2), some (.int x3)] [] := by
    intro n57
    induction n57 with
    | zero => intro _ h x0 x1 x2 x3 cl sl _ _ hm; exact no_e hm
    | succ n57 ih =>
      intro hf57
      have ih57 := ih (by omega)
      intro h x0 x1 x2 x3 cl sl hc hs hm
      try simp only [Nat.add_mul, Nat.one_mul] at hc hs
      have hm : j_X1_run_b57 (j_X1_run_l57 n57) h e0 ic sp cm B N x0 x1 x2 x3 = some R := hm
      unfold j_X1_run_b57 at hm
      refine zQ.s (fun h => zs_iload_n (i := 3) o dX1_run_57 rfl rfl) ?_
      refine zQ.s (fun h => zs_iload_n (i := 1) o dX1_run_58 rfl rfl) ?_
      refine zQ.b (fun h => zs_icmp_ge (tgt := 79) o dX1_run_59 (by decide)) (fun c => ?_) (fun c => ?_)
      · have hm := if_e1 hm c
        refine zQ.fg (zl_s (zl_n (zl_s (zl_n zl_0)))) ?_
        exact hj79 _ _ _ _ _ (by omega) (by omega) hm
      · have hm := if_e2 hm c
        refine zQ.s (fun h => zs_aload_n (i := 0) o dX1_run_62 rfl rfl) ?_
        obtain ⟨g1, hm⟩ := gd_e hm
        refine zh_getI o g1 fl_X1_416_1 rfl dX1_run_63 ?_
        refine zQ.b (fun h => zs_if_ne (tgt := 79) o dX1_run_66 (by decide)) (fun c => ?_) (fun c => ?_)
        · have hm := if_e2 hm c
          refine zQ.fg (zl_s (zl_n (zl_s (zl_n zl_0)))) ?_
          exact hj79 _ _ _ _ _ (by omega) (by omega) hm
        · have hm := if_e1 hm c
          refine zQ.s (fun h => zs_aload_n (i := 0) o dX1_run_69 rfl rfl) ?_
          obtain ⟨g2, hm⟩ := gd_e hm
          obtain ⟨y3, c_y3, hm⟩ := bd_e hm
          refine zh_Vv o g2 ml_X1_590 (J_X1_pass G _ _ _ _ _ _ _ _ z_e0 z_ih z_ic z_ad z_cs z_sp z_cm c_y3) dX1_run_70 rfl rfl rfl rfl (by omega) (by omega) ?_
          refine zQ.s (fun h => zs_iinc (i := 3) (v := x3 + (1 : Int32)) o dX1_run_73 rfl rfl (by decide) (Or.inr rfl) (by simp only [List.set_cons_succ, List.set_cons_zero]; rfl)) ?_
          refine zQ.s (fun h => zs_goto (tgt := 57) o dX1_run_76 (by decide)) ?_
          exact ih57 _ _ _ _ _ _ _ (by omega) (by omega) hm
  have hj42 : ∀ (h : zH) (x0 : Nat) (x1 : Int32) (s0 : Int32) (cl sl : Nat), cl + ((N * (605) + 0)) ≤ (N * (605) + 0) → sl + ((N * (1765 + 5 * B) + 0)) ≤ (N * (1765 + 5 * B) + 0) → j_X1_run_j42 h e0 ic sp cm B N x0 x1 s0 = some R → zQ (EH h) G X cl sl 42 [some (zrf x0), some (.int x1), none, none] [.int s0] := by
    intro h x0 x1 s0 cl sl hc hs hm
    unfold j_X1_run_j42 at hm
    obtain ⟨y1, c_y1, hm⟩ := bd_e hm
    refine zh_Sv o ml_X1_156 (J_X1_checkState G _ _ _  c_y1) dX1_run_42 rfl rfl rfl rfl (by omega) (by omega) ?_
    refine zQ.s (fun h => zs_aload_n (i := 0) o dX1_run_45 rfl rfl) ?_
    obtain ⟨g2, hm⟩ := gd_e hm
    refine zh_getR o g2 fl_X1_107_1 rfl dX1_run_46 ?_
    obtain ⟨g3, hm⟩ := gd_e hm
    obtain ⟨y4, c_y4, hm⟩ := bd_e hm
    refine zh_Fi o g3 ml_X1_543_10 (J_J2_size G _ _ _ _  c_y4) dX1_run_49 rfl rfl rfl rfl (by omega) (by omega) ?_
    refine zQ.s (fun h => zs_istore_n (i := 2) o dX1_run_54 rfl (by decide) (Or.inr rfl) (by simp only [List.set_cons_succ, List.set_cons_zero]; rfl)) ?_
    refine zQ.s (fun h => zs_iconst (v := 0) o dX1_run_55 (by decide)) ?_
    refine zQ.s (fun h => zs_istore_n (i := 3) o dX1_run_56 rfl (by decide) (Or.inr rfl) (by simp only [List.set_cons_succ, List.set_cons_zero]; rfl)) ?_
    exact hl57 N (Nat.le_refl _) _ _ _ _ _ _ _ (by omega) (by omega) hm
  have hj27 : ∀ (h : zH) (x0 : Nat) (x1 : Int32) (s0 : Int32) (cl sl : Nat), cl + ((N * (605) + 0)) ≤ (N * (605) + 0) → sl + ((N * (1765 + 5 * B) + 0)) ≤ (N * (1765 + 5 * B) + 0) → j_X1_run_j27 h e0 ic sp cm B N x0 x1 s0 = some R → zQ (EH h) G X cl sl 27 [some (zrf x0), some (.int x1), none, none] [.int s0] := by
    intro h x0 x1 s0 cl sl hc hs hm
    unfold j_X1_run_j27 at hm
    obtain ⟨y1, c_y1, hm⟩ := bd_e hm
    refine zh_Sv o ml_X1_578 (J_X1_checkArgument G _ _ _  c_y1) dX1_run_27 rfl rfl rfl rfl (by omega) (by omega) ?_
    refine zQ.s (fun h => zs_aload_n (i := 0) o dX1_run_30 rfl rfl) ?_
    obtain ⟨g2, hm⟩ := gd_e hm
    refine zh_getI o g2 fl_X1_416_1 rfl dX1_run_31 ?_
    refine zQ.b (fun h => zs_if_ne (tgt := 41) o dX1_run_34 (by decide)) (fun c => ?_) (fun c => ?_)
    · have hm := if_e2 hm c
      refine zQ.s (fun h => zs_iconst (v := 0) o dX1_run_41 (by decide)) ?_
      exact hj42 _ _ _ _ _ _ (by omega) (by omega) hm
    · have hm := if_e1 hm c
      refine zQ.s (fun h => zs_iconst (v := 1) o dX1_run_37 (by decide)) ?_
      refine zQ.s (fun h => zs_goto (tgt := 42) o dX1_run_38 (by decide)) ?_
      exact hj42 _ _ _ _ _ _ (by omega) (by omega) hm
  have hj26 : ∀ (h : zH) (x0 : Nat) (x1 : Int32) (cl sl : Nat), cl + ((N * (605) + 0)) ≤ (N * (605) + 0) → sl + ((N * (1765 + 5 * B) + 0)) ≤ (N * (1765 + 5 * B) + 0) → j_X1_run_j26 h e0 ic sp cm B N x0 x1 = some R → zQ (EH h) G X cl sl 26 [some (zrf x0), some (.int x1), none, none] [] := by
    intro h x0 x1 cl sl hc hs hm
    unfold j_X1_run_j26 at hm
    refine zQ.s (fun h => zs_iconst (v := 0) o dX1_run_26 (by decide)) ?_
    exact hj27 _ _ _ _ _ _ (by omega) (by omega) hm
  unfold j_X1_run at hm
  refine zQ.s (fun h => zs_iload_n (i := 1) o dX1_run_0 rfl rfl) ?_
  refine zQ.s (fun h => zs_iconst (v := 1) o dX1_run_1 (by decide)) ?_
  refine zQ.s (fun h => zs_bipush (v := 60) o dX1_run_2 (by decide)) ?_
  obtain ⟨y1, c_y1, hm⟩ := bd_e hm
  refine zh_Si o ml_X1_3 (J_X1_isBetween G _ _ _ _ _ _  c_y1) dX1_run_4 rfl rfl rfl rfl (by omega) (by omega) ?_
  refine zQ.b (fun h => zs_if_eq (tgt := 26) o dX1_run_7 (by decide)) (fun c => ?_) (fun c => ?_)
  · have hm := if_e1 hm c
    exact hj26 _ _ _ _ _ (by omega) (by omega) hm
  · have hm := if_e2 hm c
    refine zQ.s (fun h => zs_aload_n (i := 0) o dX1_run_10 rfl rfl) ?_
    obtain ⟨g2, hm⟩ := gd_e hm
    refine zh_getI o g2 fl_X1_153_1 rfl dX1_run_11 ?_
    refine zQ.s (fun h => zs_iload_n (i := 1) o dX1_run_14 rfl rfl) ?_
    refine zQ.s (fun h => zs_iadd o dX1_run_15) ?_
    refine zQ.s (fun h => zs_sipush (v := 500) o dX1_run_16 (by decide)) ?_
    refine zQ.b (fun h => zs_icmp_gt (tgt := 26) o dX1_run_19 (by decide)) (fun c => ?_) (fun c => ?_)
    · have hm := if_e1 hm c
      exact hj26 _ _ _ _ _ (by omega) (by omega) hm
    · have hm := if_e2 hm c
      refine zQ.s (fun h => zs_iconst (v := 1) o dX1_run_22 (by decide)) ?_
      refine zQ.s (fun h => zs_goto (tgt := 27) o dX1_run_23 (by decide)) ?_
      exact hj27 _ _ _ _ _ _ (by omega) (by omega) hm

def j_X1_cycle (h : zH) (p : Nat) : Option (zH × Int32) :=
  gd (kd h p 1) <|
  some (h, hI h 1 26 p)

set_option maxHeartbeats 40000000 in
theorem J_X1_cycle (G : zG) (h : zH) (p : Nat) (V : Int32) (h9 : zH) (hm : j_X1_cycle h p = some (h9, V)) : zJi G yX1_cycle cX1_cycle 1 (some .int) 0 0 0 [zrf p] h V h9 := by
  refine zCo.st [some (zrf p)] rfl rfl (by simp only [zarg_r, zarg_i, zarg_l, zarg_0]; rfl) (fun X o f0 hin hw0 => ?_)
  have f := f0.e
  have hin : (Xt X).name = "cycle" := hin
  refine (?_ : zQ (EH h) G X 0 0 0 [some (zrf p)] []) h rfl hw0
  clear hw0
  generalize hR9 : ((h9, V) : (zH × Int32)) = R at hm
  unfold j_X1_cycle at hm
  refine zQ.s (fun h => zs_aload_n (i := 0) o dX1_cycle_0 rfl rfl) ?_
  obtain ⟨g1, hm⟩ := gd_e hm
  refine zh_getI o g1 fl_X1_153_1 rfl dX1_cycle_1 ?_
  refine zh_reti o f dX1_cycle_4 rfl (by omega) (by omega) ((so_e hm).trans hR9.symm)

def j_X1_hasStopped (h : zH) (p : Nat) : Option (zH × Int32) :=
  gd (kd h p 1) <|
  gd (b01 (hI h 1 29 p)) <|
  some (h, hI h 1 29 p)

set_option maxHeartbeats 40000000 in
theorem J_X1_hasStopped (G : zG) (h : zH) (p : Nat) (V : Int32) (h9 : zH) (hm : j_X1_hasStopped h p = some (h9, V)) : zJi G yX1_hasStopped cX1_hasStopped 1 (some .boolean) 0 0 0 [zrf p] h V h9 := by
  refine zCo.st [some (zrf p)] rfl rfl (by simp only [zarg_r, zarg_i, zarg_l, zarg_0]; rfl) (fun X o f0 hin hw0 => ?_)
  have f := f0.e
  have hin : (Xt X).name = "hasStopped" := hin
  refine (?_ : zQ (EH h) G X 0 0 0 [some (zrf p)] []) h rfl hw0
  clear hw0
  generalize hR9 : ((h9, V) : (zH × Int32)) = R at hm
  unfold j_X1_hasStopped at hm
  refine zQ.s (fun h => zs_aload_n (i := 0) o dX1_hasStopped_0 rfl rfl) ?_
  obtain ⟨g1, hm⟩ := gd_e hm
  refine zh_getI o g1 fl_X1_416_1 rfl dX1_hasStopped_1 ?_
  obtain ⟨g2, hm⟩ := gd_e hm
  refine zh_reti o f dX1_hasStopped_4 (b01_e g2).1 (by omega) (by omega) ((so_e hm).trans hR9.symm)

def j_X1_ends (h : zH) (p : Nat) : Option (zH × Int32) :=
  gd (kd h p 1) <|
  gd (kd h (hR h 1 30 p) 10) <|
  bd (j_J2_size h (hR h 1 30 p)) fun y3 =>
  some (y3.1, y3.2)

set_option maxHeartbeats 40000000 in
theorem J_X1_ends (G : zG) (h : zH) (p : Nat) (V : Int32) (h9 : zH) (hm : j_X1_ends h p = some (h9, V)) : zJi G yX1_ends cX1_ends 1 (some .int) 1 0 0 [zrf p] h V h9 := by
  refine zCo.st [some (zrf p)] rfl rfl (by simp only [zarg_r, zarg_i, zarg_l, zarg_0]; rfl) (fun X o f0 hin hw0 => ?_)
  have f := f0.e
  have hin : (Xt X).name = "ends" := hin
  refine (?_ : zQ (EH h) G X 0 0 0 [some (zrf p)] []) h rfl hw0
  clear hw0
  generalize hR9 : ((h9, V) : (zH × Int32)) = R at hm
  unfold j_X1_ends at hm
  refine zQ.s (fun h => zs_aload_n (i := 0) o dX1_ends_0 rfl rfl) ?_
  obtain ⟨g1, hm⟩ := gd_e hm
  refine zh_getR o g1 fl_X1_107_1 rfl dX1_ends_1 ?_
  obtain ⟨g2, hm⟩ := gd_e hm
  obtain ⟨y3, c_y3, hm⟩ := bd_e hm
  refine zh_Fi o g2 ml_X1_543_10 (J_J2_size G _ _ _ _  c_y3) dX1_ends_4 rfl rfl rfl rfl (by omega) (by omega) ?_
  refine zh_reti o f dX1_ends_9 rfl (by omega) (by omega) ((so_e hm).trans hR9.symm)

def j_X1_endWith (h : zH) (p : Nat) (a1 : Int32) : Option (zH × Nat) :=
  gd (kd h p 1) <|
  gd (kd h (hR h 1 30 p) 10) <|
  bd (j_J2_size h (hR h 1 30 p)) fun y3 =>
  bd (j_X1_checkIndex y3.1 a1 y3.2) fun y4 =>
  gd (kd y4 p 1) <|
  gd (kd y4 (hR y4 1 30 p) 10) <|
  bd (j_J2_get y4 (hR y4 1 30 p) a1) fun y7 =>
  gd (kd y7.1 y7.2 5) <|
  some (y7.1, y7.2)

set_option maxHeartbeats 40000000 in
theorem J_X1_endWith (G : zG) (h : zH) (p : Nat) (a1 : Int32) (V : Nat) (h9 : zH) (hm : j_X1_endWith h p a1 = some (h9, V)) : zJr G yX1_endWith cX1_endWith 2 (some (.object "Reorderium$End")) 3 0 0 [zrf p, .int a1] h V h9 := by
  refine zCo.st [some (zrf p), some (.int a1)] rfl rfl (by simp only [zarg_r, zarg_i, zarg_l, zarg_0]; rfl) (fun X o f0 hin hw0 => ?_)
  have f := f0.e
  have hin : (Xt X).name = "endWith" := hin
  refine (?_ : zQ (EH h) G X 0 0 0 [some (zrf p), some (.int a1)] []) h rfl hw0
  clear hw0
  generalize hR9 : ((h9, V) : (zH × Nat)) = R at hm
  unfold j_X1_endWith at hm
  refine zQ.s (fun h => zs_iload_n (i := 1) o dX1_endWith_0 rfl rfl) ?_
  refine zQ.s (fun h => zs_aload_n (i := 0) o dX1_endWith_1 rfl rfl) ?_
  obtain ⟨g1, hm⟩ := gd_e hm
  refine zh_getR o g1 fl_X1_107_1 rfl dX1_endWith_2 ?_
  obtain ⟨g2, hm⟩ := gd_e hm
  obtain ⟨y3, c_y3, hm⟩ := bd_e hm
  refine zh_Fi o g2 ml_X1_543_10 (J_J2_size G _ _ _ _  c_y3) dX1_endWith_5 rfl rfl rfl rfl (by omega) (by omega) ?_
  obtain ⟨y4, c_y4, hm⟩ := bd_e hm
  refine zh_Sv o ml_X1_593 (J_X1_checkIndex G _ _ _ _  c_y4) dX1_endWith_10 rfl rfl rfl rfl (by omega) (by omega) ?_
  refine zQ.s (fun h => zs_aload_n (i := 0) o dX1_endWith_13 rfl rfl) ?_
  obtain ⟨g5, hm⟩ := gd_e hm
  refine zh_getR o g5 fl_X1_107_1 rfl dX1_endWith_14 ?_
  refine zQ.s (fun h => zs_iload_n (i := 1) o dX1_endWith_17 rfl rfl) ?_
  obtain ⟨g6, hm⟩ := gd_e hm
  obtain ⟨y7, c_y7, hm⟩ := bd_e hm
  refine zh_Fr o g6 ml_X1_544_10 (J_J2_get G _ _ _ _ _  c_y7) dX1_endWith_18 rfl rfl rfl rfl (by omega) (by omega) ?_
  obtain ⟨g8, hm⟩ := gd_e hm
  refine zh_cast (c := 5) o q1325 (by decide) (by decide) g8 dX1_endWith_23 ?_
  refine zh_retr o f dX1_endWith_26 rfl (by omega) (by omega) ((so_e hm).trans hR9.symm)

def j_X1_kindAt (h : zH) (p : Nat) (a1 : Int32) : Option (zH × Int32) :=
  gd (kd h p 1) <|
  bd (j_X1_endWith h p a1) fun y2 =>
  gd (kd y2.1 y2.2 5) <|
  some (y2.1, hI y2.1 5 0 y2.2)

set_option maxHeartbeats 40000000 in
theorem J_X1_kindAt (G : zG) (h : zH) (p : Nat) (a1 : Int32) (V : Int32) (h9 : zH) (hm : j_X1_kindAt h p a1 = some (h9, V)) : zJi G yX1_kindAt cX1_kindAt 2 (some .int) 4 0 0 [zrf p, .int a1] h V h9 := by
  refine zCo.st [some (zrf p), some (.int a1)] rfl rfl (by simp only [zarg_r, zarg_i, zarg_l, zarg_0]; rfl) (fun X o f0 hin hw0 => ?_)
  have f := f0.e
  have hin : (Xt X).name = "kindAt" := hin
  refine (?_ : zQ (EH h) G X 0 0 0 [some (zrf p), some (.int a1)] []) h rfl hw0
  clear hw0
  generalize hR9 : ((h9, V) : (zH × Int32)) = R at hm
  unfold j_X1_kindAt at hm
  refine zQ.s (fun h => zs_aload_n (i := 0) o dX1_kindAt_0 rfl rfl) ?_
  refine zQ.s (fun h => zs_iload_n (i := 1) o dX1_kindAt_1 rfl rfl) ?_
  obtain ⟨g1, hm⟩ := gd_e hm
  obtain ⟨y2, c_y2, hm⟩ := bd_e hm
  refine zh_Vr o g1 ml_X1_596 (J_X1_endWith G _ _ _ _ _  c_y2) dX1_kindAt_2 rfl rfl rfl rfl (by omega) (by omega) ?_
  obtain ⟨g3, hm⟩ := gd_e hm
  refine zh_getI o g3 fl_X1_600_5 rfl dX1_kindAt_5 ?_
  refine zh_reti o f dX1_kindAt_8 rfl (by omega) (by omega) ((so_e hm).trans hR9.symm)

def j_X1_placeAt (h : zH) (p : Nat) (a1 : Int32) : Option (zH × Int32) :=
  gd (kd h p 1) <|
  bd (j_X1_endWith h p a1) fun y2 =>
  gd (kd y2.1 y2.2 5) <|
  some (y2.1, hI y2.1 5 1 y2.2)

set_option maxHeartbeats 40000000 in
theorem J_X1_placeAt (G : zG) (h : zH) (p : Nat) (a1 : Int32) (V : Int32) (h9 : zH) (hm : j_X1_placeAt h p a1 = some (h9, V)) : zJi G yX1_placeAt cX1_placeAt 2 (some .int) 4 0 0 [zrf p, .int a1] h V h9 := by
  refine zCo.st [some (zrf p), some (.int a1)] rfl rfl (by simp only [zarg_r, zarg_i, zarg_l, zarg_0]; rfl) (fun X o f0 hin hw0 => ?_)
  have f := f0.e
  have hin : (Xt X).name = "placeAt" := hin
  refine (?_ : zQ (EH h) G X 0 0 0 [some (zrf p), some (.int a1)] []) h rfl hw0
  clear hw0
  generalize hR9 : ((h9, V) : (zH × Int32)) = R at hm
  unfold j_X1_placeAt at hm
  refine zQ.s (fun h => zs_aload_n (i := 0) o dX1_placeAt_0 rfl rfl) ?_
  refine zQ.s (fun h => zs_iload_n (i := 1) o dX1_placeAt_1 rfl rfl) ?_
  obtain ⟨g1, hm⟩ := gd_e hm
  obtain ⟨y2, c_y2, hm⟩ := bd_e hm
  refine zh_Vr o g1 ml_X1_596 (J_X1_endWith G _ _ _ _ _  c_y2) dX1_placeAt_2 rfl rfl rfl rfl (by omega) (by omega) ?_
  obtain ⟨g3, hm⟩ := gd_e hm
  refine zh_getI o g3 fl_X1_603_5 rfl dX1_placeAt_5 ?_
  refine zh_reti o f dX1_placeAt_8 rfl (by omega) (by omega) ((so_e hm).trans hR9.symm)

def j_X1_plain (h : zH) (p : Nat) : Option (zH × Nat) :=
  lt (zT h + 1) fun r1 =>
  lt (nw h 9 2 0) fun S2 =>
  gd (kd S2 p 1) <|
  gd (kd S2 p 1) <|
  gd (kd S2 p 1) <|
  gd (kd S2 p 1) <|
  gd (kd S2 (hR S2 1 4 p) 2) <|
  bd (j_X2_anew S2 (hR S2 1 4 p)) fun y8 =>
  gd (nzr r1) <|
  bd (j_X9_init y8.1 r1 (hR S2 1 0 p) (hR S2 1 1 p) (hR S2 1 2 p) y8.2) fun y10 =>
  some (y10, r1)

set_option maxHeartbeats 40000000 in
theorem J_X1_plain (G : zG) (h : zH) (p : Nat) (V : Nat) (h9 : zH) (hm : j_X1_plain h p = some (h9, V)) : zJr G yX1_plain cX1_plain 1 (some (.object "Reorderium$Plain")) 3 4 82 [zrf p] h V h9 := by
  refine zCo.st [some (zrf p)] rfl rfl (by simp only [zarg_r, zarg_i, zarg_l, zarg_0]; rfl) (fun X o f0 hin hw0 => ?_)
  have f := f0.e
  have hin : (Xt X).name = "plain" := hin
  refine (?_ : zQ (EH h) G X 0 0 0 [some (zrf p)] []) h rfl hw0
  clear hw0
  generalize hR9 : ((h9, V) : (zH × Nat)) = R at hm
  unfold j_X1_plain at hm
  obtain ⟨r1, e_r1, hm⟩ := lt_e hm
  obtain ⟨S2, e_S2, hm⟩ := lt_e hm
  refine zh_new (N := 6) o nl_X1_604 rfl dX1_plain_0 (by omega) (by omega) e_S2 ?_
  refine zQ.nmr e_r1 ?_
  refine zQ.s (fun h => zs_dup o dX1_plain_3 (by first | rfl | exact zrf_cat _)) ?_
  refine zQ.s (fun h => zs_aload_n (i := 0) o dX1_plain_4 rfl rfl) ?_
  obtain ⟨g3, hm⟩ := gd_e hm
  refine zh_getR o g3 fl_X1_16_1 rfl dX1_plain_5 ?_
  refine zQ.s (fun h => zs_aload_n (i := 0) o dX1_plain_8 rfl rfl) ?_
  obtain ⟨g4, hm⟩ := gd_e hm
  refine zh_getR o g4 fl_X1_20_1 rfl dX1_plain_9 ?_
  refine zQ.s (fun h => zs_aload_n (i := 0) o dX1_plain_12 rfl rfl) ?_
  obtain ⟨g5, hm⟩ := gd_e hm
  refine zh_getR o g5 fl_X1_24_1 rfl dX1_plain_13 ?_
  refine zQ.s (fun h => zs_aload_n (i := 0) o dX1_plain_16 rfl rfl) ?_
  obtain ⟨g6, hm⟩ := gd_e hm
  refine zh_getR o g6 fl_X1_33_1 rfl dX1_plain_17 ?_
  obtain ⟨g7, hm⟩ := gd_e hm
  obtain ⟨y8, c_y8, hm⟩ := bd_e hm
  refine zh_Vr5 o g7 ml_X1_606 (J_X2_anew G _ _ _ _  c_y8) dX1_plain_20 rfl rfl rfl (by simp only [List.map_cons, List.map_nil, zrf_cat, zcat_i, List.sum_cons, List.sum_nil]; omega) (by omega) (by omega) ?_
  obtain ⟨g9, hm⟩ := gd_e hm
  obtain ⟨y10, c_y10, hm⟩ := bd_e hm
  refine zh_Iv o g9 ml_X1_610 (J_X9_init G _ _ _ _ _ _ _  c_y10) dX1_plain_23 rfl rfl rfl rfl (by omega) (by omega) ?_
  refine zh_retr o f dX1_plain_26 rfl (by omega) (by omega) ((so_e hm).trans hR9.symm)

def j_X1_follow (h : zH) (a1 : Nat) (a2 : Nat) : Option (zH × Int32) :=
  gd (kd h a2 5) <|
  if (hI h 5 0 a2) = (9 : Int32) then
    gd (kd h a1 9) <|
    bd (j_X9_interrupt h a1) fun y5 =>
    some (y5.1, (9 : Int32))
  else
    gd (kd h a1 9) <|
    bd (j_X9_step h a1) fun y3 =>
    some (y3.1, y3.2)

set_option maxHeartbeats 40000000 in
theorem J_X1_follow (G : zG) (h : zH) (a1 : Nat) (a2 : Nat) (V : Int32) (h9 : zH) (hm : j_X1_follow h a1 a2 = some (h9, V)) : zJi G yX1_follow cX1_follow 2 (some .int) 4 0 0 [zrf a1, zrf a2] h V h9 := by
  refine zCo.st [some (zrf a1), some (zrf a2)] rfl rfl (by simp only [zarg_r, zarg_i, zarg_l, zarg_0]; rfl) (fun X o f0 hin hw0 => ?_)
  have f := f0.e
  have hin : (Xt X).name = "follow" := hin
  refine (?_ : zQ (EH h) G X 0 0 0 [some (zrf a1), some (zrf a2)] []) h rfl hw0
  clear hw0
  generalize hR9 : ((h9, V) : (zH × Int32)) = R at hm
  unfold j_X1_follow at hm
  refine zQ.s (fun h => zs_aload_n (i := 1) o dX1_follow_0 rfl rfl) ?_
  obtain ⟨g1, hm⟩ := gd_e hm
  refine zh_getI o g1 fl_X1_600_5 rfl dX1_follow_1 ?_
  refine zQ.s (fun h => zs_bipush (v := 9) o dX1_follow_4 (by decide)) ?_
  refine zQ.b (fun h => zs_icmp_ne (tgt := 17) o dX1_follow_6 (by decide)) (fun c => ?_) (fun c => ?_)
  · have hm := if_e2 hm c
    refine zQ.s (fun h => zs_aload_n (i := 0) o dX1_follow_17 rfl rfl) ?_
    obtain ⟨g2, hm⟩ := gd_e hm
    obtain ⟨y3, c_y3, hm⟩ := bd_e hm
    refine zh_Vi o g2 ml_X1_615 (J_X9_step G _ _ _ _  c_y3) dX1_follow_18 rfl rfl rfl rfl (by omega) (by omega) ?_
    refine zh_reti o f dX1_follow_21 rfl (by omega) (by omega) ((so_e hm).trans hR9.symm)
  · have hm := if_e1 hm c
    refine zQ.s (fun h => zs_aload_n (i := 0) o dX1_follow_9 rfl rfl) ?_
    obtain ⟨g4, hm⟩ := gd_e hm
    obtain ⟨y5, c_y5, hm⟩ := bd_e hm
    refine zh_Vi o g4 ml_X1_613 (J_X9_interrupt G _ _ _ _  c_y5) dX1_follow_10 rfl rfl rfl rfl (by omega) (by omega) ?_
    refine zQ.s (fun h => zs_pop o dX1_follow_13 (by first | rfl | exact zrf_cat _)) ?_
    refine zQ.s (fun h => zs_bipush (v := 9) o dX1_follow_14 (by decide)) ?_
    refine zh_reti o f dX1_follow_16 rfl (by omega) (by omega) ((so_e hm).trans hR9.symm)

def j_X1_plainAhead_b7 (k7 : zH → Nat → Int32 → Nat → Int32 → Option (zH × Nat)) (h : zH) (x0 : Nat) (x1 : Int32) (x2 : Nat) (x3 : Int32) : Option (zH × Nat) :=
  if x1 ≤ x3 then
    some (h, x2)
  else
    gd (kd h x0 1) <|
    gd (kd h (hR h 1 30 x0) 10) <|
    bd (j_J2_get h (hR h 1 30 x0) x3) fun y3 =>
    gd (kd y3.1 y3.2 5) <|
    bd (j_X1_follow y3.1 x2 y3.2) fun y5 =>
    k7 y5.1 x0 x1 x2 (x3 + (1 : Int32))
def j_X1_plainAhead_l7 : Nat → zH → Nat → Int32 → Nat → Int32 → Option (zH × Nat)
  | 0 => fun _ _ _ _ _ => none
  | n + 1 => j_X1_plainAhead_b7 (j_X1_plainAhead_l7 n)
def j_X1_plainAhead (h : zH) (p : Nat) (a1 : Int32) : Option (zH × Nat) :=
  gd (kd h p 1) <|
  bd (j_X1_plain h p) fun y2 =>
  j_X1_plainAhead_l7 2100 y2.1 p a1 y2.2 (0 : Int32)

set_option maxHeartbeats 40000000 in
theorem J_X1_plainAhead (G : zG) (h : zH) (p : Nat) (a1 : Int32) (V : Nat) (h9 : zH) (hm : j_X1_plainAhead h p a1 = some (h9, V)) : zJr G yX1_plainAhead cX1_plainAhead 4 (some (.object "Reorderium$Plain")) 5 4 82 [zrf p, .int a1] h V h9 := by
  refine zCo.st [some (zrf p), some (.int a1), none, none] rfl rfl (by simp only [zarg_r, zarg_i, zarg_l, zarg_0]; rfl) (fun X o f0 hin hw0 => ?_)
  have f := f0.e
  have hin : (Xt X).name = "plainAhead" := hin
  refine (?_ : zQ (EH h) G X 0 0 0 [some (zrf p), some (.int a1), none, none] []) h rfl hw0
  clear hw0
  generalize hR9 : ((h9, V) : (zH × Nat)) = R at hm
  have hl7 : ∀ (n7 : Nat), n7 ≤ 2100 → ∀ (h : zH) (x0 : Nat) (x1 : Int32) (x2 : Nat) (x3 : Int32) (cl sl : Nat), cl + (0) ≤ 4 → sl + (0) ≤ 82 → j_X1_plainAhead_l7 n7 h x0 x1 x2 x3 = some R → zQ (EH h) G X cl sl 7 [some (zrf x0), some (.int x1), some (zrf x2), some (.int x3)] [] := by
    intro n7
    induction n7 with
    | zero => intro _ h x0 x1 x2 x3 cl sl _ _ hm; exact no_e hm
    | succ n7 ih =>
      intro hf7
      have ih7 := ih (by omega)
      intro h x0 x1 x2 x3 cl sl hc hs hm
      have hm : j_X1_plainAhead_b7 (j_X1_plainAhead_l7 n7) h x0 x1 x2 x3 = some R := hm
      unfold j_X1_plainAhead_b7 at hm
      refine zQ.s (fun h => zs_iload_n (i := 3) o dX1_plainAhead_7 rfl rfl) ?_
      refine zQ.s (fun h => zs_iload_n (i := 1) o dX1_plainAhead_8 rfl rfl) ?_
      refine zQ.b (fun h => zs_icmp_ge (tgt := 36) o dX1_plainAhead_9 (by decide)) (fun c => ?_) (fun c => ?_)
      · have hm := if_e1 hm c
        refine zQ.s (fun h => zs_aload_n (i := 2) o dX1_plainAhead_36 rfl rfl) ?_
        refine zh_retr o f dX1_plainAhead_37 rfl (by omega) (by omega) ((so_e hm).trans hR9.symm)
      · have hm := if_e2 hm c
        refine zQ.s (fun h => zs_aload_n (i := 2) o dX1_plainAhead_12 rfl rfl) ?_
        refine zQ.s (fun h => zs_aload_n (i := 0) o dX1_plainAhead_13 rfl rfl) ?_
        obtain ⟨g1, hm⟩ := gd_e hm
        refine zh_getR o g1 fl_X1_107_1 rfl dX1_plainAhead_14 ?_
        refine zQ.s (fun h => zs_iload_n (i := 3) o dX1_plainAhead_17 rfl rfl) ?_
        obtain ⟨g2, hm⟩ := gd_e hm
        obtain ⟨y3, c_y3, hm⟩ := bd_e hm
        refine zh_Fr o g2 ml_X1_544_10 (J_J2_get G _ _ _ _ _  c_y3) dX1_plainAhead_18 rfl rfl rfl rfl (by omega) (by omega) ?_
        obtain ⟨g4, hm⟩ := gd_e hm
        refine zh_cast (c := 5) o q1325 (by decide) (by decide) g4 dX1_plainAhead_23 ?_
        obtain ⟨y5, c_y5, hm⟩ := bd_e hm
        refine zh_Si o ml_X1_622 (J_X1_follow G _ _ _ _ _  c_y5) dX1_plainAhead_26 rfl rfl rfl rfl (by omega) (by omega) ?_
        refine zQ.s (fun h => zs_pop o dX1_plainAhead_29 (by first | rfl | exact zrf_cat _)) ?_
        refine zQ.s (fun h => zs_iinc (i := 3) (v := x3 + (1 : Int32)) o dX1_plainAhead_30 rfl rfl (by decide) (Or.inr (zc2_ref rfl)) (by simp only [List.set_cons_succ, List.set_cons_zero]; rfl)) ?_
        refine zQ.s (fun h => zs_goto (tgt := 7) o dX1_plainAhead_33 (by decide)) ?_
        exact ih7 _ _ _ _ _ _ _ (by omega) (by omega) hm
  unfold j_X1_plainAhead at hm
  refine zQ.s (fun h => zs_aload_n (i := 0) o dX1_plainAhead_0 rfl rfl) ?_
  obtain ⟨g1, hm⟩ := gd_e hm
  obtain ⟨y2, c_y2, hm⟩ := bd_e hm
  refine zh_Vr o g1 ml_X1_618 (J_X1_plain G _ _ _ _  c_y2) dX1_plainAhead_1 rfl rfl rfl rfl (by omega) (by omega) ?_
  refine zQ.s (fun h => zs_astore_n (i := 2) o dX1_plainAhead_4 rfl (by decide) (Or.inr rfl) (by simp only [List.set_cons_succ, List.set_cons_zero]; rfl)) ?_
  refine zQ.s (fun h => zs_iconst (v := 0) o dX1_plainAhead_5 (by decide)) ?_
  refine zQ.s (fun h => zs_istore_n (i := 3) o dX1_plainAhead_6 rfl (by decide) (Or.inr (zc2_ref rfl)) (by simp only [List.set_cons_succ, List.set_cons_zero]; rfl)) ?_
  exact hl7 2100 (Nat.le_refl _) _ _ _ _ _ _ _ (by omega) (by omega) hm

def j_X1_kindByPlain (h : zH) (p : Nat) (a1 : Int32) : Option (zH × Int32) :=
  gd (kd h p 1) <|
  bd (j_X1_endWith h p a1) fun y2 =>
  gd (kd y2.1 p 1) <|
  bd (j_X1_plainAhead y2.1 p a1) fun y4 =>
  bd (j_X1_follow y4.1 y4.2 y2.2) fun y5 =>
  some (y5.1, y5.2)

set_option maxHeartbeats 40000000 in
theorem J_X1_kindByPlain (G : zG) (h : zH) (p : Nat) (a1 : Int32) (V : Int32) (h9 : zH) (hm : j_X1_kindByPlain h p a1 = some (h9, V)) : zJi G yX1_kindByPlain cX1_kindByPlain 3 (some .int) 6 4 82 [zrf p, .int a1] h V h9 := by
  refine zCo.st [some (zrf p), some (.int a1), none] rfl rfl (by simp only [zarg_r, zarg_i, zarg_l, zarg_0]; rfl) (fun X o f0 hin hw0 => ?_)
  have f := f0.e
  have hin : (Xt X).name = "kindByPlain" := hin
  refine (?_ : zQ (EH h) G X 0 0 0 [some (zrf p), some (.int a1), none] []) h rfl hw0
  clear hw0
  generalize hR9 : ((h9, V) : (zH × Int32)) = R at hm
  unfold j_X1_kindByPlain at hm
  refine zQ.s (fun h => zs_aload_n (i := 0) o dX1_kindByPlain_0 rfl rfl) ?_
  refine zQ.s (fun h => zs_iload_n (i := 1) o dX1_kindByPlain_1 rfl rfl) ?_
  obtain ⟨g1, hm⟩ := gd_e hm
  obtain ⟨y2, c_y2, hm⟩ := bd_e hm
  refine zh_Vr o g1 ml_X1_596 (J_X1_endWith G _ _ _ _ _  c_y2) dX1_kindByPlain_2 rfl rfl rfl rfl (by omega) (by omega) ?_
  refine zQ.s (fun h => zs_astore_n (i := 2) o dX1_kindByPlain_5 rfl (by decide) (Or.inr rfl) (by simp only [List.set_cons_succ, List.set_cons_zero]; rfl)) ?_
  refine zQ.s (fun h => zs_aload_n (i := 0) o dX1_kindByPlain_6 rfl rfl) ?_
  refine zQ.s (fun h => zs_iload_n (i := 1) o dX1_kindByPlain_7 rfl rfl) ?_
  obtain ⟨g3, hm⟩ := gd_e hm
  obtain ⟨y4, c_y4, hm⟩ := bd_e hm
  refine zh_Vr o g3 ml_X1_626 (J_X1_plainAhead G _ _ _ _ _  c_y4) dX1_kindByPlain_8 rfl rfl rfl rfl (by omega) (by omega) ?_
  refine zQ.s (fun h => zs_aload_n (i := 2) o dX1_kindByPlain_11 rfl rfl) ?_
  obtain ⟨y5, c_y5, hm⟩ := bd_e hm
  refine zh_Si o ml_X1_622 (J_X1_follow G _ _ _ _ _  c_y5) dX1_kindByPlain_12 rfl rfl rfl rfl (by omega) (by omega) ?_
  refine zh_reti o f dX1_kindByPlain_15 rfl (by omega) (by omega) ((so_e hm).trans hR9.symm)

def j_X1_placeByPlain (h : zH) (p : Nat) (a1 : Int32) : Option (zH × Int32) :=
  gd (kd h p 1) <|
  bd (j_X1_endWith h p a1) fun y2 =>
  gd (kd y2.1 p 1) <|
  bd (j_X1_plainAhead y2.1 p a1) fun y4 =>
  gd (kd y4.1 y4.2 9) <|
  some (y4.1, hI y4.1 9 4 y4.2)

set_option maxHeartbeats 40000000 in
theorem J_X1_placeByPlain (G : zG) (h : zH) (p : Nat) (a1 : Int32) (V : Int32) (h9 : zH) (hm : j_X1_placeByPlain h p a1 = some (h9, V)) : zJi G yX1_placeByPlain cX1_placeByPlain 2 (some .int) 6 4 82 [zrf p, .int a1] h V h9 := by
  refine zCo.st [some (zrf p), some (.int a1)] rfl rfl (by simp only [zarg_r, zarg_i, zarg_l, zarg_0]; rfl) (fun X o f0 hin hw0 => ?_)
  have f := f0.e
  have hin : (Xt X).name = "placeByPlain" := hin
  refine (?_ : zQ (EH h) G X 0 0 0 [some (zrf p), some (.int a1)] []) h rfl hw0
  clear hw0
  generalize hR9 : ((h9, V) : (zH × Int32)) = R at hm
  unfold j_X1_placeByPlain at hm
  refine zQ.s (fun h => zs_aload_n (i := 0) o dX1_placeByPlain_0 rfl rfl) ?_
  refine zQ.s (fun h => zs_iload_n (i := 1) o dX1_placeByPlain_1 rfl rfl) ?_
  obtain ⟨g1, hm⟩ := gd_e hm
  obtain ⟨y2, c_y2, hm⟩ := bd_e hm
  refine zh_Vr o g1 ml_X1_596 (J_X1_endWith G _ _ _ _ _  c_y2) dX1_placeByPlain_2 rfl rfl rfl rfl (by omega) (by omega) ?_
  refine zQ.s (fun h => zs_pop o dX1_placeByPlain_5 (by first | rfl | exact zrf_cat _)) ?_
  refine zQ.s (fun h => zs_aload_n (i := 0) o dX1_placeByPlain_6 rfl rfl) ?_
  refine zQ.s (fun h => zs_iload_n (i := 1) o dX1_placeByPlain_7 rfl rfl) ?_
  obtain ⟨g3, hm⟩ := gd_e hm
  obtain ⟨y4, c_y4, hm⟩ := bd_e hm
  refine zh_Vr o g3 ml_X1_626 (J_X1_plainAhead G _ _ _ _ _  c_y4) dX1_placeByPlain_8 rfl rfl rfl rfl (by omega) (by omega) ?_
  obtain ⟨g5, hm⟩ := gd_e hm
  refine zh_getI o g5 fl_X1_630_9 rfl dX1_placeByPlain_11 ?_
  refine zh_reti o f dX1_placeByPlain_14 rfl (by omega) (by omega) ((so_e hm).trans hR9.symm)

def j_X1_register (h : zH) (p : Nat) (a1 : Int32) : Option (zH × Int32) :=
  bd (j_X1_isRegister h a1) fun y1 =>
  bd (j_X1_checkArgument y1.1 y1.2) fun y2 =>
  gd (kd y2 p 1) <|
  gd (kd y2 p 1) <|
  gd (kd y2 (hR y2 1 12 p) 201) <|
  gd (inb a1 (zN y2 (hR y2 1 12 p))) <|
  gd (kd y2 (hR y2 1 9 p) 201) <|
  gd (inb (hI y2 201 (ix a1) (hR y2 1 12 p)) (zN y2 (hR y2 1 9 p))) <|
  some (y2, hI y2 201 (ix (hI y2 201 (ix a1) (hR y2 1 12 p))) (hR y2 1 9 p))

set_option maxHeartbeats 40000000 in
theorem J_X1_register (G : zG) (h : zH) (p : Nat) (a1 : Int32) (V : Int32) (h9 : zH) (hm : j_X1_register h p a1 = some (h9, V)) : zJi G yX1_register cX1_register 2 (some .int) 2 0 0 [zrf p, .int a1] h V h9 := by
  refine zCo.st [some (zrf p), some (.int a1)] rfl rfl (by simp only [zarg_r, zarg_i, zarg_l, zarg_0]; rfl) (fun X o f0 hin hw0 => ?_)
  have f := f0.e
  have hin : (Xt X).name = "register" := hin
  refine (?_ : zQ (EH h) G X 0 0 0 [some (zrf p), some (.int a1)] []) h rfl hw0
  clear hw0
  generalize hR9 : ((h9, V) : (zH × Int32)) = R at hm
  unfold j_X1_register at hm
  refine zQ.s (fun h => zs_iload_n (i := 1) o dX1_register_0 rfl rfl) ?_
  obtain ⟨y1, c_y1, hm⟩ := bd_e hm
  refine zh_Si o ml_X1_575 (J_X1_isRegister G _ _ _ _  c_y1) dX1_register_1 rfl rfl rfl rfl (by omega) (by omega) ?_
  obtain ⟨y2, c_y2, hm⟩ := bd_e hm
  refine zh_Sv o ml_X1_578 (J_X1_checkArgument G _ _ _  c_y2) dX1_register_4 rfl rfl rfl rfl (by omega) (by omega) ?_
  refine zQ.s (fun h => zs_aload_n (i := 0) o dX1_register_7 rfl rfl) ?_
  obtain ⟨g3, hm⟩ := gd_e hm
  refine zh_getR o g3 fl_X1_50_1 rfl dX1_register_8 ?_
  refine zQ.s (fun h => zs_aload_n (i := 0) o dX1_register_11 rfl rfl) ?_
  obtain ⟨g4, hm⟩ := gd_e hm
  refine zh_getR o g4 fl_X1_63_1 rfl dX1_register_12 ?_
  refine zQ.s (fun h => zs_iload_n (i := 1) o dX1_register_15 rfl rfl) ?_
  obtain ⟨g5, hm⟩ := gd_e hm
  obtain ⟨g6, hm⟩ := gd_e hm
  refine zh_iald o g5 g6 dX1_register_16 ?_
  obtain ⟨g7, hm⟩ := gd_e hm
  obtain ⟨g8, hm⟩ := gd_e hm
  refine zh_iald o g7 g8 dX1_register_17 ?_
  refine zh_reti o f dX1_register_18 rfl (by omega) (by omega) ((so_e hm).trans hR9.symm)

def j_X1_registerByPlain (h : zH) (p : Nat) (a1 : Int32) : Option (zH × Int32) :=
  bd (j_X1_isRegister h a1) fun y1 =>
  bd (j_X1_checkArgument y1.1 y1.2) fun y2 =>
  gd (kd y2 p 1) <|
  gd (kd y2 (hR y2 1 30 p) 10) <|
  bd (j_J2_size y2 (hR y2 1 30 p)) fun y5 =>
  gd (kd y5.1 p 1) <|
  bd (j_X1_plainAhead y5.1 p y5.2) fun y7 =>
  gd (kd y7.1 y7.2 9) <|
  gd (kd y7.1 (hR y7.1 9 1 y7.2) 201) <|
  gd (inb a1 (zN y7.1 (hR y7.1 9 1 y7.2))) <|
  some (y7.1, hI y7.1 201 (ix a1) (hR y7.1 9 1 y7.2))

set_option maxHeartbeats 40000000 in
theorem J_X1_registerByPlain (G : zG) (h : zH) (p : Nat) (a1 : Int32) (V : Int32) (h9 : zH) (hm : j_X1_registerByPlain h p a1 = some (h9, V)) : zJi G yX1_registerByPlain cX1_registerByPlain 2 (some .int) 6 4 82 [zrf p, .int a1] h V h9 := by
  refine zCo.st [some (zrf p), some (.int a1)] rfl rfl (by simp only [zarg_r, zarg_i, zarg_l, zarg_0]; rfl) (fun X o f0 hin hw0 => ?_)
  have f := f0.e
  have hin : (Xt X).name = "registerByPlain" := hin
  refine (?_ : zQ (EH h) G X 0 0 0 [some (zrf p), some (.int a1)] []) h rfl hw0
  clear hw0
  generalize hR9 : ((h9, V) : (zH × Int32)) = R at hm
  unfold j_X1_registerByPlain at hm
  refine zQ.s (fun h => zs_iload_n (i := 1) o dX1_registerByPlain_0 rfl rfl) ?_
  obtain ⟨y1, c_y1, hm⟩ := bd_e hm
  refine zh_Si o ml_X1_575 (J_X1_isRegister G _ _ _ _  c_y1) dX1_registerByPlain_1 rfl rfl rfl rfl (by omega) (by omega) ?_
  obtain ⟨y2, c_y2, hm⟩ := bd_e hm
  refine zh_Sv o ml_X1_578 (J_X1_checkArgument G _ _ _  c_y2) dX1_registerByPlain_4 rfl rfl rfl rfl (by omega) (by omega) ?_
  refine zQ.s (fun h => zs_aload_n (i := 0) o dX1_registerByPlain_7 rfl rfl) ?_
  refine zQ.s (fun h => zs_aload_n (i := 0) o dX1_registerByPlain_8 rfl rfl) ?_
  obtain ⟨g3, hm⟩ := gd_e hm
  refine zh_getR o g3 fl_X1_107_1 rfl dX1_registerByPlain_9 ?_
  obtain ⟨g4, hm⟩ := gd_e hm
  obtain ⟨y5, c_y5, hm⟩ := bd_e hm
  refine zh_Fi o g4 ml_X1_543_10 (J_J2_size G _ _ _ _  c_y5) dX1_registerByPlain_12 rfl rfl rfl rfl (by omega) (by omega) ?_
  obtain ⟨g6, hm⟩ := gd_e hm
  obtain ⟨y7, c_y7, hm⟩ := bd_e hm
  refine zh_Vr o g6 ml_X1_626 (J_X1_plainAhead G _ _ _ _ _  c_y7) dX1_registerByPlain_17 rfl rfl rfl rfl (by omega) (by omega) ?_
  obtain ⟨g8, hm⟩ := gd_e hm
  refine zh_getR o g8 fl_X1_631_9 rfl dX1_registerByPlain_20 ?_
  refine zQ.s (fun h => zs_iload_n (i := 1) o dX1_registerByPlain_23 rfl rfl) ?_
  obtain ⟨g9, hm⟩ := gd_e hm
  obtain ⟨g10, hm⟩ := gd_e hm
  refine zh_iald o g9 g10 dX1_registerByPlain_24 ?_
  refine zh_reti o f dX1_registerByPlain_25 rfl (by omega) (by omega) ((so_e hm).trans hR9.symm)

def j_X1_word (h : zH) (p : Nat) (a1 : Int32) : Option (zH × Int32) :=
  bd (j_X1_isAddress h a1) fun y1 =>
  bd (j_X1_checkArgument y1.1 y1.2) fun y2 =>
  gd (kd y2 p 1) <|
  gd (kd y2 (hR y2 1 3 p) 201) <|
  gd (inb a1 (zN y2 (hR y2 1 3 p))) <|
  some (y2, hI y2 201 (ix a1) (hR y2 1 3 p))

set_option maxHeartbeats 40000000 in
theorem J_X1_word (G : zG) (h : zH) (p : Nat) (a1 : Int32) (V : Int32) (h9 : zH) (hm : j_X1_word h p a1 = some (h9, V)) : zJi G yX1_word cX1_word 2 (some .int) 2 0 0 [zrf p, .int a1] h V h9 := by
  refine zCo.st [some (zrf p), some (.int a1)] rfl rfl (by simp only [zarg_r, zarg_i, zarg_l, zarg_0]; rfl) (fun X o f0 hin hw0 => ?_)
  have f := f0.e
  have hin : (Xt X).name = "word" := hin
  refine (?_ : zQ (EH h) G X 0 0 0 [some (zrf p), some (.int a1)] []) h rfl hw0
  clear hw0
  generalize hR9 : ((h9, V) : (zH × Int32)) = R at hm
  unfold j_X1_word at hm
  refine zQ.s (fun h => zs_iload_n (i := 1) o dX1_word_0 rfl rfl) ?_
  obtain ⟨y1, c_y1, hm⟩ := bd_e hm
  refine zh_Si o ml_X1_253 (J_X1_isAddress G _ _ _ _  c_y1) dX1_word_1 rfl rfl rfl rfl (by omega) (by omega) ?_
  obtain ⟨y2, c_y2, hm⟩ := bd_e hm
  refine zh_Sv o ml_X1_578 (J_X1_checkArgument G _ _ _  c_y2) dX1_word_4 rfl rfl rfl rfl (by omega) (by omega) ?_
  refine zQ.s (fun h => zs_aload_n (i := 0) o dX1_word_7 rfl rfl) ?_
  obtain ⟨g3, hm⟩ := gd_e hm
  refine zh_getR o g3 fl_X1_27_1 rfl dX1_word_8 ?_
  refine zQ.s (fun h => zs_iload_n (i := 1) o dX1_word_11 rfl rfl) ?_
  obtain ⟨g4, hm⟩ := gd_e hm
  obtain ⟨g5, hm⟩ := gd_e hm
  refine zh_iald o g4 g5 dX1_word_12 ?_
  refine zh_reti o f dX1_word_13 rfl (by omega) (by omega) ((so_e hm).trans hR9.symm)

def j_X1_wordByPlain (h : zH) (p : Nat) (a1 : Int32) : Option (zH × Int32) :=
  bd (j_X1_isAddress h a1) fun y1 =>
  bd (j_X1_checkArgument y1.1 y1.2) fun y2 =>
  gd (kd y2 p 1) <|
  gd (kd y2 (hR y2 1 30 p) 10) <|
  bd (j_J2_size y2 (hR y2 1 30 p)) fun y5 =>
  gd (kd y5.1 p 1) <|
  bd (j_X1_plainAhead y5.1 p y5.2) fun y7 =>
  gd (kd y7.1 y7.2 9) <|
  gd (kd y7.1 (hR y7.1 9 2 y7.2) 201) <|
  gd (inb a1 (zN y7.1 (hR y7.1 9 2 y7.2))) <|
  some (y7.1, hI y7.1 201 (ix a1) (hR y7.1 9 2 y7.2))

set_option maxHeartbeats 40000000 in
theorem J_X1_wordByPlain (G : zG) (h : zH) (p : Nat) (a1 : Int32) (V : Int32) (h9 : zH) (hm : j_X1_wordByPlain h p a1 = some (h9, V)) : zJi G yX1_wordByPlain cX1_wordByPlain 2 (some .int) 6 4 82 [zrf p, .int a1] h V h9 := by
  refine zCo.st [some (zrf p), some (.int a1)] rfl rfl (by simp only [zarg_r, zarg_i, zarg_l, zarg_0]; rfl) (fun X o f0 hin hw0 => ?_)
  have f := f0.e
  have hin : (Xt X).name = "wordByPlain" := hin
  refine (?_ : zQ (EH h) G X 0 0 0 [some (zrf p), some (.int a1)] []) h rfl hw0
  clear hw0
  generalize hR9 : ((h9, V) : (zH × Int32)) = R at hm
  unfold j_X1_wordByPlain at hm
  refine zQ.s (fun h => zs_iload_n (i := 1) o dX1_wordByPlain_0 rfl rfl) ?_
  obtain ⟨y1, c_y1, hm⟩ := bd_e hm
  refine zh_Si o ml_X1_253 (J_X1_isAddress G _ _ _ _  c_y1) dX1_wordByPlain_1 rfl rfl rfl rfl (by omega) (by omega) ?_
  obtain ⟨y2, c_y2, hm⟩ := bd_e hm
  refine zh_Sv o ml_X1_578 (J_X1_checkArgument G _ _ _  c_y2) dX1_wordByPlain_4 rfl rfl rfl rfl (by omega) (by omega) ?_
  refine zQ.s (fun h => zs_aload_n (i := 0) o dX1_wordByPlain_7 rfl rfl) ?_
  refine zQ.s (fun h => zs_aload_n (i := 0) o dX1_wordByPlain_8 rfl rfl) ?_
  obtain ⟨g3, hm⟩ := gd_e hm
  refine zh_getR o g3 fl_X1_107_1 rfl dX1_wordByPlain_9 ?_
  obtain ⟨g4, hm⟩ := gd_e hm
  obtain ⟨y5, c_y5, hm⟩ := bd_e hm
  refine zh_Fi o g4 ml_X1_543_10 (J_J2_size G _ _ _ _  c_y5) dX1_wordByPlain_12 rfl rfl rfl rfl (by omega) (by omega) ?_
  obtain ⟨g6, hm⟩ := gd_e hm
  obtain ⟨y7, c_y7, hm⟩ := bd_e hm
  refine zh_Vr o g6 ml_X1_626 (J_X1_plainAhead G _ _ _ _ _  c_y7) dX1_wordByPlain_17 rfl rfl rfl rfl (by omega) (by omega) ?_
  obtain ⟨g8, hm⟩ := gd_e hm
  refine zh_getR o g8 fl_X1_634_9 rfl dX1_wordByPlain_20 ?_
  refine zQ.s (fun h => zs_iload_n (i := 1) o dX1_wordByPlain_23 rfl rfl) ?_
  obtain ⟨g9, hm⟩ := gd_e hm
  obtain ⟨g10, hm⟩ := gd_e hm
  refine zh_iald o g9 g10 dX1_wordByPlain_24 ?_
  refine zh_reti o f dX1_wordByPlain_25 rfl (by omega) (by omega) ((so_e hm).trans hR9.symm)

def j_X1_kept (h : zH) (p : Nat) : Option (zH × Int32) :=
  gd (kd h p 1) <|
  gd (kd h (hR h 1 4 p) 2) <|
  bd (j_X1_checkElement h (hI h 2 2 (hR h 1 4 p))) fun y3 =>
  gd (kd y3 p 1) <|
  gd (kd y3 (hR y3 1 4 p) 2) <|
  some (y3, hI y3 2 3 (hR y3 1 4 p))

set_option maxHeartbeats 40000000 in
theorem J_X1_kept (G : zG) (h : zH) (p : Nat) (V : Int32) (h9 : zH) (hm : j_X1_kept h p = some (h9, V)) : zJi G yX1_kept cX1_kept 1 (some .int) 1 0 0 [zrf p] h V h9 := by
  refine zCo.st [some (zrf p)] rfl rfl (by simp only [zarg_r, zarg_i, zarg_l, zarg_0]; rfl) (fun X o f0 hin hw0 => ?_)
  have f := f0.e
  have hin : (Xt X).name = "kept" := hin
  refine (?_ : zQ (EH h) G X 0 0 0 [some (zrf p)] []) h rfl hw0
  clear hw0
  generalize hR9 : ((h9, V) : (zH × Int32)) = R at hm
  unfold j_X1_kept at hm
  refine zQ.s (fun h => zs_aload_n (i := 0) o dX1_kept_0 rfl rfl) ?_
  obtain ⟨g1, hm⟩ := gd_e hm
  refine zh_getR o g1 fl_X1_33_1 rfl dX1_kept_1 ?_
  obtain ⟨g2, hm⟩ := gd_e hm
  refine zh_getI o g2 fl_X1_356_2 rfl dX1_kept_4 ?_
  obtain ⟨y3, c_y3, hm⟩ := bd_e hm
  refine zh_Sv o ml_X1_635 (J_X1_checkElement G _ _ _  c_y3) dX1_kept_7 rfl rfl rfl rfl (by omega) (by omega) ?_
  refine zQ.s (fun h => zs_aload_n (i := 0) o dX1_kept_10 rfl rfl) ?_
  obtain ⟨g4, hm⟩ := gd_e hm
  refine zh_getR o g4 fl_X1_33_1 rfl dX1_kept_11 ?_
  obtain ⟨g5, hm⟩ := gd_e hm
  refine zh_getI o g5 fl_X1_638_2 rfl dX1_kept_14 ?_
  refine zh_reti o f dX1_kept_17 rfl (by omega) (by omega) ((so_e hm).trans hR9.symm)

def j_X1_life_j45 (h : zH) (x2 : Int32) (x3 : Nat) (x4 : Nat) (s0 : Int32) : Option (zH × Int32) :=
  bd (j_X1_checkElement h s0) fun y1 =>
  if x2 = (0 : Int32) then
    gd (kd y1 x4 8) <|
    some (y1, hI y1 8 2 x4)
  else
  if x2 = (1 : Int32) then
    gd (kd y1 x4 8) <|
    some (y1, hI y1 8 7 x4)
  else
  if x2 = (2 : Int32) then
    gd (kd y1 x4 8) <|
    some (y1, hI y1 8 8 x4)
  else
  if x2 = (3 : Int32) then
    gd (kd y1 x4 8) <|
    some (y1, hI y1 8 9 x4)
  else
  gd (kd y1 x3 5) <|
  some (y1, hI y1 5 2 x3)
def j_X1_life_j40 (h : zH) (x2 : Int32) (x3 : Nat) (x4 : Nat) : Option (zH × Int32) :=
  j_X1_life_j45 h x2 x3 x4 (1 : Int32)
def j_X1_life_j44 (h : zH) (x2 : Int32) (x3 : Nat) (x4 : Nat) : Option (zH × Int32) :=
  j_X1_life_j45 h x2 x3 x4 (0 : Int32)
def j_X1_life (h : zH) (p : Nat) (a1 : Int32) (a2 : Int32) : Option (zH × Int32) :=
  gd (kd h p 1) <|
  bd (j_X1_endWith h p a1) fun y2 =>
  bd (j_X1_isBetween y2.1 a2 (0 : Int32) (4 : Int32)) fun y3 =>
  bd (j_X1_checkArgument y3.1 y3.2) fun y4 =>
  gd (kd y4 y2.2 5) <|
  lt (hR y4 5 3 y2.2) fun r6 =>
  if r6 = 0 then
    j_X1_life_j44 y4 a2 y2.2 r6
  else
    if a2 = (2 : Int32) then
      gd (kd y4 r6 8) <|
      if (hI y4 8 8 r6) = (-1 : Int32) then
        j_X1_life_j44 y4 a2 y2.2 r6
      else
        j_X1_life_j40 y4 a2 y2.2 r6
    else
      j_X1_life_j40 y4 a2 y2.2 r6

set_option maxHeartbeats 40000000 in
theorem J_X1_life (G : zG) (h : zH) (p : Nat) (a1 : Int32) (a2 : Int32) (V : Int32) (h9 : zH) (hm : j_X1_life h p a1 a2 = some (h9, V)) : zJi G yX1_life cX1_life 5 (some .int) 4 0 0 [zrf p, .int a1, .int a2] h V h9 := by
  refine zCo.st [some (zrf p), some (.int a1), some (.int a2), none, none] rfl rfl (by simp only [zarg_r, zarg_i, zarg_l, zarg_0]; rfl) (fun X o f0 hin hw0 => ?_)
  have f := f0.e
  have hin : (Xt X).name = "life" := hin
  refine (?_ : zQ (EH h) G X 0 0 0 [some (zrf p), some (.int a1), some (.int a2), none, none] []) h rfl hw0
  clear hw0
  generalize hR9 : ((h9, V) : (zH × Int32)) = R at hm
  have hj45 : ∀ (h : zH) (x2 : Int32) (x3 : Nat) (x4 : Nat) (s0 : Int32) (cl sl : Nat), cl + (0) ≤ 0 → sl + (0) ≤ 0 → j_X1_life_j45 h x2 x3 x4 s0 = some R → zQ (EH h) G X cl sl 45 [none, none, some (.int x2), some (zrf x3), some (zrf x4)] [.int s0] := by
    intro h x2 x3 x4 s0 cl sl hc hs hm
    unfold j_X1_life_j45 at hm
    obtain ⟨y1, c_y1, hm⟩ := bd_e hm
    refine zh_Sv o ml_X1_635 (J_X1_checkElement G _ _ _  c_y1) dX1_life_45 rfl rfl rfl rfl (by omega) (by omega) ?_
    refine zQ.s (fun h => zs_iload_n (i := 2) o dX1_life_48 rfl rfl) ?_
    by_cases c0 : x2 = (0 : Int32)
    · have hm := if_e1 hm c0
      refine zQ.s (fun h => zs_table (off := 31) (tgt := 80) o dX1_life_49 rfl (by decide) (ts_at c0 (by decide)) (by decide)) ?_
      refine zQ.s (fun h => zs_aload (i := 4) o dX1_life_80 rfl) ?_
      obtain ⟨g2, hm⟩ := gd_e hm
      refine zh_getI o g2 fl_X1_647_8 rfl dX1_life_82 ?_
      refine zh_reti o f dX1_life_85 rfl (by omega) (by omega) ((so_e hm).trans hR9.symm)
    have hm := if_e2 hm c0
    by_cases c1 : x2 = (1 : Int32)
    · have hm := if_e1 hm c1
      refine zQ.s (fun h => zs_table (off := 37) (tgt := 86) o dX1_life_49 rfl (by decide) (ts_at c1 (by decide)) (by decide)) ?_
      refine zQ.s (fun h => zs_aload (i := 4) o dX1_life_86 rfl) ?_
      obtain ⟨g3, hm⟩ := gd_e hm
      refine zh_getI o g3 fl_X1_522_8 rfl dX1_life_88 ?_
      refine zh_reti o f dX1_life_91 rfl (by omega) (by omega) ((so_e hm).trans hR9.symm)
    have hm := if_e2 hm c1
    by_cases c2 : x2 = (2 : Int32)
    · have hm := if_e1 hm c2
      refine zQ.s (fun h => zs_table (off := 43) (tgt := 92) o dX1_life_49 rfl (by decide) (ts_at c2 (by decide)) (by decide)) ?_
      refine zQ.s (fun h => zs_aload (i := 4) o dX1_life_92 rfl) ?_
      obtain ⟨g4, hm⟩ := gd_e hm
      refine zh_getI o g4 fl_X1_644_8 rfl dX1_life_94 ?_
      refine zh_reti o f dX1_life_97 rfl (by omega) (by omega) ((so_e hm).trans hR9.symm)
    have hm := if_e2 hm c2
    by_cases c3 : x2 = (3 : Int32)
    · have hm := if_e1 hm c3
      refine zQ.s (fun h => zs_table (off := 49) (tgt := 98) o dX1_life_49 rfl (by decide) (ts_at c3 (by decide)) (by decide)) ?_
      refine zQ.s (fun h => zs_aload (i := 4) o dX1_life_98 rfl) ?_
      obtain ⟨g5, hm⟩ := gd_e hm
      refine zh_getI o g5 fl_X1_650_8 rfl dX1_life_100 ?_
      refine zh_reti o f dX1_life_103 rfl (by omega) (by omega) ((so_e hm).trans hR9.symm)
    have hm := if_e2 hm c3
    refine zQ.s (fun h => zs_table (off := 55) (tgt := 104) o dX1_life_49 rfl (by decide) (tsw_c (ts_ne (v := 0) (by decide) c0) (tsw_c (ts_ne (v := 1) (by decide) c1) (tsw_c (ts_ne (v := 2) (by decide) c2) (tsw_c (ts_ne (v := 3) (by decide) c3) (tsw_z))))) (by decide)) ?_
    refine zQ.s (fun h => zs_aload_n (i := 3) o dX1_life_104 rfl rfl) ?_
    obtain ⟨g6, hm⟩ := gd_e hm
    refine zh_getI o g6 fl_X1_653_5 rfl dX1_life_105 ?_
    refine zh_reti o f dX1_life_108 rfl (by omega) (by omega) ((so_e hm).trans hR9.symm)
  have hj44 : ∀ (h : zH) (x2 : Int32) (x3 : Nat) (x4 : Nat) (cl sl : Nat), cl + (0) ≤ 0 → sl + (0) ≤ 0 → j_X1_life_j44 h x2 x3 x4 = some R → zQ (EH h) G X cl sl 44 [none, none, some (.int x2), some (zrf x3), some (zrf x4)] [] := by
    intro h x2 x3 x4 cl sl hc hs hm
    unfold j_X1_life_j44 at hm
    refine zQ.s (fun h => zs_iconst (v := 0) o dX1_life_44 (by decide)) ?_
    exact hj45 _ _ _ _ _ _ _ (by omega) (by omega) hm
  have hj40 : ∀ (h : zH) (x2 : Int32) (x3 : Nat) (x4 : Nat) (cl sl : Nat), cl + (0) ≤ 0 → sl + (0) ≤ 0 → j_X1_life_j40 h x2 x3 x4 = some R → zQ (EH h) G X cl sl 40 [none, none, some (.int x2), some (zrf x3), some (zrf x4)] [] := by
    intro h x2 x3 x4 cl sl hc hs hm
    unfold j_X1_life_j40 at hm
    refine zQ.s (fun h => zs_iconst (v := 1) o dX1_life_40 (by decide)) ?_
    refine zQ.s (fun h => zs_goto (tgt := 45) o dX1_life_41 (by decide)) ?_
    exact hj45 _ _ _ _ _ _ _ (by omega) (by omega) hm
  unfold j_X1_life at hm
  refine zQ.s (fun h => zs_aload_n (i := 0) o dX1_life_0 rfl rfl) ?_
  refine zQ.s (fun h => zs_iload_n (i := 1) o dX1_life_1 rfl rfl) ?_
  obtain ⟨g1, hm⟩ := gd_e hm
  obtain ⟨y2, c_y2, hm⟩ := bd_e hm
  refine zh_Vr o g1 ml_X1_596 (J_X1_endWith G _ _ _ _ _  c_y2) dX1_life_2 rfl rfl rfl rfl (by omega) (by omega) ?_
  refine zQ.s (fun h => zs_astore_n (i := 3) o dX1_life_5 rfl (by decide) (Or.inr rfl) (by simp only [List.set_cons_succ, List.set_cons_zero]; rfl)) ?_
  refine zQ.s (fun h => zs_iload_n (i := 2) o dX1_life_6 rfl rfl) ?_
  refine zQ.s (fun h => zs_iconst (v := 0) o dX1_life_7 (by decide)) ?_
  refine zQ.s (fun h => zs_iconst (v := 4) o dX1_life_8 (by decide)) ?_
  obtain ⟨y3, c_y3, hm⟩ := bd_e hm
  refine zh_Si o ml_X1_3 (J_X1_isBetween G _ _ _ _ _ _  c_y3) dX1_life_9 rfl rfl rfl rfl (by omega) (by omega) ?_
  obtain ⟨y4, c_y4, hm⟩ := bd_e hm
  refine zh_Sv o ml_X1_578 (J_X1_checkArgument G _ _ _  c_y4) dX1_life_12 rfl rfl rfl rfl (by omega) (by omega) ?_
  refine zQ.s (fun h => zs_aload_n (i := 3) o dX1_life_15 rfl rfl) ?_
  obtain ⟨g5, hm⟩ := gd_e hm
  refine zh_getR o g5 fl_X1_641_5 rfl dX1_life_16 ?_
  obtain ⟨r6, e_r6, hm⟩ := lt_e hm
  refine zQ.nmr e_r6 ?_
  refine zQ.s (fun h => zs_astore (i := 4) o dX1_life_19 (by decide) (Or.inr (zc2_ref rfl)) (by simp only [List.set_cons_succ, List.set_cons_zero]; rfl)) ?_
  refine zQ.s (fun h => zs_aload (i := 4) o dX1_life_21 rfl) ?_
  refine zQ.b (fun h => zs_ifnull (tgt := 44) o dX1_life_23 (by decide)) (fun c => ?_) (fun c => ?_)
  · have hm := if_e1 hm c
    refine zQ.fg (zl_n (zl_n (zl_s (zl_s (zl_s zl_0))))) ?_
    exact hj44 _ _ _ _ _ _ (by omega) (by omega) hm
  · have hm := if_e2 hm c
    refine zQ.s (fun h => zs_iload_n (i := 2) o dX1_life_26 rfl rfl) ?_
    refine zQ.s (fun h => zs_iconst (v := 2) o dX1_life_27 (by decide)) ?_
    refine zQ.b (fun h => zs_icmp_ne (tgt := 40) o dX1_life_28 (by decide)) (fun c => ?_) (fun c => ?_)
    · have hm := if_e2 hm c
      refine zQ.fg (zl_n (zl_n (zl_s (zl_s (zl_s zl_0))))) ?_
      exact hj40 _ _ _ _ _ _ (by omega) (by omega) hm
    · have hm := if_e1 hm c
      refine zQ.s (fun h => zs_aload (i := 4) o dX1_life_31 rfl) ?_
      obtain ⟨g7, hm⟩ := gd_e hm
      refine zh_getI o g7 fl_X1_644_8 rfl dX1_life_33 ?_
      refine zQ.s (fun h => zs_iconst (v := -1) o dX1_life_36 (by decide)) ?_
      refine zQ.b (fun h => zs_icmp_eq (tgt := 44) o dX1_life_37 (by decide)) (fun c => ?_) (fun c => ?_)
      · have hm := if_e1 hm c
        refine zQ.fg (zl_n (zl_n (zl_s (zl_s (zl_s zl_0))))) ?_
        exact hj44 _ _ _ _ _ _ (by omega) (by omega) hm
      · have hm := if_e2 hm c
        refine zQ.fg (zl_n (zl_n (zl_s (zl_s (zl_s zl_0))))) ?_
        exact hj40 _ _ _ _ _ _ (by omega) (by omega) hm

def j_X1_inner (h : zH) (p : Nat) (a1 : Int32) : Option (zH × Int32) :=
  bd (j_X1_isRegister h a1) fun y1 =>
  bd (j_X1_checkArgument y1.1 y1.2) fun y2 =>
  gd (kd y2 p 1) <|
  gd (kd y2 (hR y2 1 11 p) 201) <|
  gd (inb a1 (zN y2 (hR y2 1 11 p))) <|
  some (y2, hI y2 201 (ix a1) (hR y2 1 11 p))

set_option maxHeartbeats 40000000 in
theorem J_X1_inner (G : zG) (h : zH) (p : Nat) (a1 : Int32) (V : Int32) (h9 : zH) (hm : j_X1_inner h p a1 = some (h9, V)) : zJi G yX1_inner cX1_inner 2 (some .int) 2 0 0 [zrf p, .int a1] h V h9 := by
  refine zCo.st [some (zrf p), some (.int a1)] rfl rfl (by simp only [zarg_r, zarg_i, zarg_l, zarg_0]; rfl) (fun X o f0 hin hw0 => ?_)
  have f := f0.e
  have hin : (Xt X).name = "inner" := hin
  refine (?_ : zQ (EH h) G X 0 0 0 [some (zrf p), some (.int a1)] []) h rfl hw0
  clear hw0
  generalize hR9 : ((h9, V) : (zH × Int32)) = R at hm
  unfold j_X1_inner at hm
  refine zQ.s (fun h => zs_iload_n (i := 1) o dX1_inner_0 rfl rfl) ?_
  obtain ⟨y1, c_y1, hm⟩ := bd_e hm
  refine zh_Si o ml_X1_575 (J_X1_isRegister G _ _ _ _  c_y1) dX1_inner_1 rfl rfl rfl rfl (by omega) (by omega) ?_
  obtain ⟨y2, c_y2, hm⟩ := bd_e hm
  refine zh_Sv o ml_X1_578 (J_X1_checkArgument G _ _ _  c_y2) dX1_inner_4 rfl rfl rfl rfl (by omega) (by omega) ?_
  refine zQ.s (fun h => zs_aload_n (i := 0) o dX1_inner_7 rfl rfl) ?_
  obtain ⟨g3, hm⟩ := gd_e hm
  refine zh_getR o g3 fl_X1_60_1 rfl dX1_inner_8 ?_
  refine zQ.s (fun h => zs_iload_n (i := 1) o dX1_inner_11 rfl rfl) ?_
  obtain ⟨g4, hm⟩ := gd_e hm
  obtain ⟨g5, hm⟩ := gd_e hm
  refine zh_iald o g4 g5 dX1_inner_12 ?_
  refine zh_reti o f dX1_inner_13 rfl (by omega) (by omega) ((so_e hm).trans hR9.symm)

def j_X1_innerAnew_j72 (k22 : zH → Int32 → Int32 → Nat → Option (zH × Int32)) (h : zH) (x1 : Int32) (x3 : Nat) (s0 : Int32) : Option (zH × Int32) :=
  k22 h x1 s0 x3
def j_X1_innerAnew_j71 (k22 : zH → Int32 → Int32 → Nat → Option (zH × Int32)) (h : zH) (x1 : Int32) (x2 : Int32) (x3 : Nat) : Option (zH × Int32) :=
  j_X1_innerAnew_j72 k22 h x1 x3 x2
def j_X1_innerAnew_b22 (k22 : zH → Int32 → Int32 → Nat → Option (zH × Int32)) (h : zH) (x1 : Int32) (x2 : Int32) (x3 : Nat) : Option (zH × Int32) :=
  gd (kd h x3 16) <|
  bd (j_J28_hasNext h x3) fun y2 =>
  if y2.2 = (0 : Int32) then
    some (y2.1, x2)
  else
    gd (kd y2.1 x3 16) <|
    bd (j_J28_next y2.1 x3) fun y4 =>
    gd (kd y4.1 y4.2 8) <|
    gd (kd y4.1 y4.2 8) <|
    if (hI y4.1 8 12 y4.2) = (-1 : Int32) then
      j_X1_innerAnew_j71 k22 y4.1 x1 x2 x3
    else
      gd (kd y4.1 y4.2 8) <|
      gd (kd y4.1 (hR y4.1 8 0 y4.2) 4) <|
      if (hI y4.1 4 1 (hR y4.1 8 0 y4.2)) = x1 then
        gd (kd y4.1 y4.2 8) <|
        j_X1_innerAnew_j72 k22 y4.1 x1 x3 (hI y4.1 8 12 y4.2)
      else
        j_X1_innerAnew_j71 k22 y4.1 x1 x2 x3
def j_X1_innerAnew_l22 : Nat → zH → Int32 → Int32 → Nat → Option (zH × Int32)
  | 0 => fun _ _ _ _ => none
  | n + 1 => j_X1_innerAnew_b22 (j_X1_innerAnew_l22 n)
def j_X1_innerAnew (h : zH) (p : Nat) (a1 : Int32) : Option (zH × Int32) :=
  bd (j_X1_isRegister h a1) fun y1 =>
  bd (j_X1_checkArgument y1.1 y1.2) fun y2 =>
  gd (kd y2 p 1) <|
  gd (kd y2 (hR y2 1 12 p) 201) <|
  gd (inb a1 (zN y2 (hR y2 1 12 p))) <|
  lt (hI y2 201 (ix a1) (hR y2 1 12 p)) fun v6 =>
  gd (kd y2 p 1) <|
  gd (kd y2 (hR y2 1 15 p) 13) <|
  bd (j_J5_iterator y2 (hR y2 1 15 p)) fun y9 =>
  j_X1_innerAnew_l22 18 y9.1 a1 v6 y9.2

set_option maxHeartbeats 40000000 in
theorem J_X1_innerAnew (G : zG) (h : zH) (p : Nat) (a1 : Int32) (V : Int32) (h9 : zH) (hm : j_X1_innerAnew h p a1 = some (h9, V)) : zJi G yX1_innerAnew cX1_innerAnew 5 (some .int) 5 1 5 [zrf p, .int a1] h V h9 := by
  refine zCo.st [some (zrf p), some (.int a1), none, none, none] rfl rfl (by simp only [zarg_r, zarg_i, zarg_l, zarg_0]; rfl) (fun X o f0 hin hw0 => ?_)
  have f := f0.e
  have hin : (Xt X).name = "innerAnew" := hin
  refine (?_ : zQ (EH h) G X 0 0 0 [some (zrf p), some (.int a1), none, none, none] []) h rfl hw0
  clear hw0
  generalize hR9 : ((h9, V) : (zH × Int32)) = R at hm
  have hl22 : ∀ (n22 : Nat), n22 ≤ 18 → ∀ (h : zH) (x1 : Int32) (x2 : Int32) (x3 : Nat) (cl sl : Nat), cl + (0) ≤ 1 → sl + (0) ≤ 5 → j_X1_innerAnew_l22 n22 h x1 x2 x3 = some R → zQ (EH h) G X cl sl 22 [none, some (.int x1), some (.int x2), some (zrf x3), none] [] := by
    intro n22
    induction n22 with
    | zero => intro _ h x1 x2 x3 cl sl _ _ hm; exact no_e hm
    | succ n22 ih =>
      intro hf22
      have ih22 := ih (by omega)
      have hj72 : ∀ (h : zH) (x1 : Int32) (x3 : Nat) (s0 : Int32) (cl sl : Nat), cl + (0) ≤ 1 → sl + (0) ≤ 5 → j_X1_innerAnew_j72 (j_X1_innerAnew_l22 n22) h x1 x3 s0 = some R → zQ (EH h) G X cl sl 72 [none, some (.int x1), none, some (zrf x3), none] [.int s0] := by
        intro h x1 x3 s0 cl sl hc hs hm
        unfold j_X1_innerAnew_j72 at hm
        refine zQ.s (fun h => zs_istore_n (i := 2) o dX1_innerAnew_72 rfl (by decide) (Or.inr rfl) (by simp only [List.set_cons_succ, List.set_cons_zero]; rfl)) ?_
        refine zQ.s (fun h => zs_goto (tgt := 22) o dX1_innerAnew_73 (by decide)) ?_
        exact ih22 _ _ _ _ _ _ (by omega) (by omega) hm
      have hj71 : ∀ (h : zH) (x1 : Int32) (x2 : Int32) (x3 : Nat) (cl sl : Nat), cl + (0) ≤ 1 → sl + (0) ≤ 5 → j_X1_innerAnew_j71 (j_X1_innerAnew_l22 n22) h x1 x2 x3 = some R → zQ (EH h) G X cl sl 71 [none, some (.int x1), some (.int x2), some (zrf x3), none] [] := by
        intro h x1 x2 x3 cl sl hc hs hm
        unfold j_X1_innerAnew_j71 at hm
        refine zQ.s (fun h => zs_iload_n (i := 2) o dX1_innerAnew_71 rfl rfl) ?_
        refine zQ.fg (zl_n (zl_s (zl_n (zl_s (zl_n zl_0))))) ?_
        exact hj72 _ _ _ _ _ _ (by omega) (by omega) hm
      intro h x1 x2 x3 cl sl hc hs hm
      have hm : j_X1_innerAnew_b22 (j_X1_innerAnew_l22 n22) h x1 x2 x3 = some R := hm
      unfold j_X1_innerAnew_b22 at hm
      refine zQ.s (fun h => zs_aload_n (i := 3) o dX1_innerAnew_22 rfl rfl) ?_
      obtain ⟨g1, hm⟩ := gd_e hm
      obtain ⟨y2, c_y2, hm⟩ := bd_e hm
      refine zh_Fi o g1 ml_X1_164_16 (J_J28_hasNext G _ _ _ _  c_y2) dX1_innerAnew_23 rfl rfl rfl rfl (by omega) (by omega) ?_
      refine zQ.b (fun h => zs_if_eq (tgt := 76) o dX1_innerAnew_28 (by decide)) (fun c => ?_) (fun c => ?_)
      · have hm := if_e1 hm c
        refine zQ.s (fun h => zs_iload_n (i := 2) o dX1_innerAnew_76 rfl rfl) ?_
        refine zh_reti o f dX1_innerAnew_77 rfl (by omega) (by omega) ((so_e hm).trans hR9.symm)
      · have hm := if_e2 hm c
        refine zQ.s (fun h => zs_aload_n (i := 3) o dX1_innerAnew_31 rfl rfl) ?_
        obtain ⟨g3, hm⟩ := gd_e hm
        obtain ⟨y4, c_y4, hm⟩ := bd_e hm
        refine zh_Fr o g3 ml_X1_170_16 (J_J28_next G _ _ _ _  c_y4) dX1_innerAnew_32 rfl rfl rfl rfl (by omega) (by omega) ?_
        obtain ⟨g5, hm⟩ := gd_e hm
        refine zh_cast (c := 8) o q1468 (by decide) (by decide) g5 dX1_innerAnew_37 ?_
        refine zQ.s (fun h => zs_astore (i := 4) o dX1_innerAnew_40 (by decide) (Or.inr (zc2_ref rfl)) (by simp only [List.set_cons_succ, List.set_cons_zero]; rfl)) ?_
        refine zQ.s (fun h => zs_aload (i := 4) o dX1_innerAnew_42 rfl) ?_
        obtain ⟨g6, hm⟩ := gd_e hm
        refine zh_getI o g6 fl_X1_328_8 rfl dX1_innerAnew_44 ?_
        refine zQ.s (fun h => zs_iconst (v := -1) o dX1_innerAnew_47 (by decide)) ?_
        refine zQ.b (fun h => zs_icmp_eq (tgt := 71) o dX1_innerAnew_48 (by decide)) (fun c => ?_) (fun c => ?_)
        · have hm := if_e1 hm c
          refine zQ.fg (zl_n (zl_s (zl_s (zl_s (zl_n zl_0))))) ?_
          exact hj71 _ _ _ _ _ _ (by omega) (by omega) hm
        · have hm := if_e2 hm c
          refine zQ.s (fun h => zs_aload (i := 4) o dX1_innerAnew_51 rfl) ?_
          obtain ⟨g7, hm⟩ := gd_e hm
          refine zh_getR o g7 fl_X1_220_8 rfl dX1_innerAnew_53 ?_
          obtain ⟨g8, hm⟩ := gd_e hm
          refine zh_getI o g8 fl_X1_340_4 rfl dX1_innerAnew_56 ?_
          refine zQ.s (fun h => zs_iload_n (i := 1) o dX1_innerAnew_59 rfl rfl) ?_
          refine zQ.b (fun h => zs_icmp_ne (tgt := 71) o dX1_innerAnew_60 (by decide)) (fun c => ?_) (fun c => ?_)
          · have hm := if_e2 hm c
            refine zQ.fg (zl_n (zl_s (zl_s (zl_s (zl_n zl_0))))) ?_
            exact hj71 _ _ _ _ _ _ (by omega) (by omega) hm
          · have hm := if_e1 hm c
            refine zQ.s (fun h => zs_aload (i := 4) o dX1_innerAnew_63 rfl) ?_
            obtain ⟨g9, hm⟩ := gd_e hm
            refine zh_getI o g9 fl_X1_328_8 rfl dX1_innerAnew_65 ?_
            refine zQ.s (fun h => zs_goto (tgt := 72) o dX1_innerAnew_68 (by decide)) ?_
            refine zQ.fg (zl_n (zl_s (zl_n (zl_s (zl_n zl_0))))) ?_
            exact hj72 _ _ _ _ _ _ (by omega) (by omega) hm
  unfold j_X1_innerAnew at hm
  refine zQ.s (fun h => zs_iload_n (i := 1) o dX1_innerAnew_0 rfl rfl) ?_
  obtain ⟨y1, c_y1, hm⟩ := bd_e hm
  refine zh_Si o ml_X1_575 (J_X1_isRegister G _ _ _ _  c_y1) dX1_innerAnew_1 rfl rfl rfl rfl (by omega) (by omega) ?_
  obtain ⟨y2, c_y2, hm⟩ := bd_e hm
  refine zh_Sv o ml_X1_578 (J_X1_checkArgument G _ _ _  c_y2) dX1_innerAnew_4 rfl rfl rfl rfl (by omega) (by omega) ?_
  refine zQ.s (fun h => zs_aload_n (i := 0) o dX1_innerAnew_7 rfl rfl) ?_
  obtain ⟨g3, hm⟩ := gd_e hm
  refine zh_getR o g3 fl_X1_63_1 rfl dX1_innerAnew_8 ?_
  refine zQ.s (fun h => zs_iload_n (i := 1) o dX1_innerAnew_11 rfl rfl) ?_
  obtain ⟨g4, hm⟩ := gd_e hm
  obtain ⟨g5, hm⟩ := gd_e hm
  refine zh_iald o g4 g5 dX1_innerAnew_12 ?_
  obtain ⟨v6, e_v6, hm⟩ := lt_e hm
  refine zQ.nmi e_v6 ?_
  refine zQ.s (fun h => zs_istore_n (i := 2) o dX1_innerAnew_13 rfl (by decide) (Or.inr rfl) (by simp only [List.set_cons_succ, List.set_cons_zero]; rfl)) ?_
  refine zQ.s (fun h => zs_aload_n (i := 0) o dX1_innerAnew_14 rfl rfl) ?_
  obtain ⟨g7, hm⟩ := gd_e hm
  refine zh_getR o g7 fl_X1_79_1 rfl dX1_innerAnew_15 ?_
  obtain ⟨g8, hm⟩ := gd_e hm
  obtain ⟨y9, c_y9, hm⟩ := bd_e hm
  refine zh_Ur o g8 ml_X1_160 (J_J5_iterator G _ _ _ _  c_y9) dX1_innerAnew_18 rfl rfl rfl rfl (by omega) (by omega) ?_
  refine zQ.s (fun h => zs_astore_n (i := 3) o dX1_innerAnew_21 rfl (by decide) (Or.inr rfl) (by simp only [List.set_cons_succ, List.set_cons_zero]; rfl)) ?_
  refine zQ.fg (zl_n (zl_s (zl_s (zl_s (zl_n zl_0))))) ?_
  exact hl22 18 (Nat.le_refl _) _ _ _ _ _ _ (by omega) (by omega) hm

def j_X1_has_j39 (k11 : zH → Int32 → Int32 → Nat → Int32 → Int32 → Option (zH × Int32)) (h : zH) (x1 : Int32) (x3 : Nat) (x4 : Int32) (x5 : Int32) (s0 : Int32) : Option (zH × Int32) :=
  k11 h x1 s0 x3 x4 (x5 + (1 : Int32))
def j_X1_has_j34 (k11 : zH → Int32 → Int32 → Nat → Int32 → Int32 → Option (zH × Int32)) (h : zH) (x1 : Int32) (x3 : Nat) (x4 : Int32) (x5 : Int32) : Option (zH × Int32) :=
  j_X1_has_j39 k11 h x1 x3 x4 x5 (1 : Int32)
def j_X1_has_b11 (k11 : zH → Int32 → Int32 → Nat → Int32 → Int32 → Option (zH × Int32)) (h : zH) (x1 : Int32) (x2 : Int32) (x3 : Nat) (x4 : Int32) (x5 : Int32) : Option (zH × Int32) :=
  if x4 ≤ x5 then
    gd (b01 x2) <|
    some (h, x2)
  else
    gd (kd h x3 201) <|
    gd (inb x5 (zN h x3)) <|
    lt (hI h 201 (ix x5) x3) fun v4 =>
    if x2 = (0 : Int32) then
      if v4 = x1 then
        j_X1_has_j34 k11 h x1 x3 x4 x5
      else
        j_X1_has_j39 k11 h x1 x3 x4 x5 (0 : Int32)
    else
      j_X1_has_j34 k11 h x1 x3 x4 x5
def j_X1_has_l11 : Nat → zH → Int32 → Int32 → Nat → Int32 → Int32 → Option (zH × Int32)
  | 0 => fun _ _ _ _ _ _ => none
  | n + 1 => j_X1_has_b11 (j_X1_has_l11 n)
def j_X1_has (h : zH) (a1 : Nat) (a2 : Int32) : Option (zH × Int32) :=
  gd (isA h a1) <|
  lt (nI (zN h a1)) fun v2 =>
  j_X1_has_l11 10 h a2 (0 : Int32) a1 v2 (0 : Int32)

set_option maxHeartbeats 40000000 in
theorem J_X1_has (G : zG) (h : zH) (a1 : Nat) (a2 : Int32) (V : Int32) (h9 : zH) (hm : j_X1_has h a1 a2 = some (h9, V)) : zJi G yX1_has cX1_has 7 (some .boolean) 0 0 0 [zrf a1, .int a2] h V h9 := by
  refine zCo.st [some (zrf a1), some (.int a2), none, none, none, none, none] rfl rfl (by simp only [zarg_r, zarg_i, zarg_l, zarg_0]; rfl) (fun X o f0 hin hw0 => ?_)
  have f := f0.e
  have hin : (Xt X).name = "has" := hin
  refine (?_ : zQ (EH h) G X 0 0 0 [some (zrf a1), some (.int a2), none, none, none, none, none] []) h rfl hw0
  clear hw0
  generalize hR9 : ((h9, V) : (zH × Int32)) = R at hm
  have hl11 : ∀ (n11 : Nat), n11 ≤ 10 → ∀ (h : zH) (x1 : Int32) (x2 : Int32) (x3 : Nat) (x4 : Int32) (x5 : Int32) (cl sl : Nat), cl + (0) ≤ 0 → sl + (0) ≤ 0 → j_X1_has_l11 n11 h x1 x2 x3 x4 x5 = some R → zQ (EH h) G X cl sl 11 [none, some (.int x1), some (.int x2), some (zrf x3), some (.int x4), some (.int x5), none] [] := by
    intro n11
    induction n11 with
    | zero => intro _ h x1 x2 x3 x4 x5 cl sl _ _ hm; exact no_e hm
    | succ n11 ih =>
      intro hf11
      have ih11 := ih (by omega)
      have hj39 : ∀ (h : zH) (x1 : Int32) (x3 : Nat) (x4 : Int32) (x5 : Int32) (s0 : Int32) (cl sl : Nat), cl + (0) ≤ 0 → sl + (0) ≤ 0 → j_X1_has_j39 (j_X1_has_l11 n11) h x1 x3 x4 x5 s0 = some R → zQ (EH h) G X cl sl 39 [none, some (.int x1), none, some (zrf x3), some (.int x4), some (.int x5), none] [.int s0] := by
        intro h x1 x3 x4 x5 s0 cl sl hc hs hm
        unfold j_X1_has_j39 at hm
        refine zQ.s (fun h => zs_istore_n (i := 2) o dX1_has_39 rfl (by decide) (Or.inr rfl) (by simp only [List.set_cons_succ, List.set_cons_zero]; rfl)) ?_
        refine zQ.s (fun h => zs_iinc (i := 5) (v := x5 + (1 : Int32)) o dX1_has_40 rfl rfl (by decide) (Or.inr rfl) (by simp only [List.set_cons_succ, List.set_cons_zero]; rfl)) ?_
        refine zQ.s (fun h => zs_goto (tgt := 11) o dX1_has_43 (by decide)) ?_
        exact ih11 _ _ _ _ _ _ _ _ (by omega) (by omega) hm
      have hj34 : ∀ (h : zH) (x1 : Int32) (x3 : Nat) (x4 : Int32) (x5 : Int32) (cl sl : Nat), cl + (0) ≤ 0 → sl + (0) ≤ 0 → j_X1_has_j34 (j_X1_has_l11 n11) h x1 x3 x4 x5 = some R → zQ (EH h) G X cl sl 34 [none, some (.int x1), none, some (zrf x3), some (.int x4), some (.int x5), none] [] := by
        intro h x1 x3 x4 x5 cl sl hc hs hm
        unfold j_X1_has_j34 at hm
        refine zQ.s (fun h => zs_iconst (v := 1) o dX1_has_34 (by decide)) ?_
        refine zQ.s (fun h => zs_goto (tgt := 39) o dX1_has_35 (by decide)) ?_
        exact hj39 _ _ _ _ _ _ _ _ (by omega) (by omega) hm
      intro h x1 x2 x3 x4 x5 cl sl hc hs hm
      have hm : j_X1_has_b11 (j_X1_has_l11 n11) h x1 x2 x3 x4 x5 = some R := hm
      unfold j_X1_has_b11 at hm
      refine zQ.s (fun h => zs_iload (i := 5) o dX1_has_11 rfl) ?_
      refine zQ.s (fun h => zs_iload (i := 4) o dX1_has_13 rfl) ?_
      refine zQ.b (fun h => zs_icmp_ge (tgt := 46) o dX1_has_15 (by decide)) (fun c => ?_) (fun c => ?_)
      · have hm := if_e1 hm c
        refine zQ.s (fun h => zs_iload_n (i := 2) o dX1_has_46 rfl rfl) ?_
        obtain ⟨g1, hm⟩ := gd_e hm
        refine zh_reti o f dX1_has_47 (b01_e g1).1 (by omega) (by omega) ((so_e hm).trans hR9.symm)
      · have hm := if_e2 hm c
        refine zQ.s (fun h => zs_aload_n (i := 3) o dX1_has_18 rfl rfl) ?_
        refine zQ.s (fun h => zs_iload (i := 5) o dX1_has_19 rfl) ?_
        obtain ⟨g2, hm⟩ := gd_e hm
        obtain ⟨g3, hm⟩ := gd_e hm
        refine zh_iald o g2 g3 dX1_has_21 ?_
        obtain ⟨v4, e_v4, hm⟩ := lt_e hm
        refine zQ.nmi e_v4 ?_
        refine zQ.s (fun h => zs_istore (i := 6) o dX1_has_22 (by decide) (Or.inr rfl) (by simp only [List.set_cons_succ, List.set_cons_zero]; rfl)) ?_
        refine zQ.s (fun h => zs_iload_n (i := 2) o dX1_has_24 rfl rfl) ?_
        refine zQ.b (fun h => zs_if_ne (tgt := 34) o dX1_has_25 (by decide)) (fun c => ?_) (fun c => ?_)
        · have hm := if_e2 hm c
          refine zQ.fg (zl_n (zl_s (zl_n (zl_s (zl_s (zl_s (zl_n zl_0))))))) ?_
          exact hj34 _ _ _ _ _ _ _ (by omega) (by omega) hm
        · have hm := if_e1 hm c
          refine zQ.s (fun h => zs_iload (i := 6) o dX1_has_28 rfl) ?_
          refine zQ.s (fun h => zs_iload_n (i := 1) o dX1_has_30 rfl rfl) ?_
          refine zQ.b (fun h => zs_icmp_ne (tgt := 38) o dX1_has_31 (by decide)) (fun c => ?_) (fun c => ?_)
          · have hm := if_e2 hm c
            refine zQ.s (fun h => zs_iconst (v := 0) o dX1_has_38 (by decide)) ?_
            refine zQ.fg (zl_n (zl_s (zl_n (zl_s (zl_s (zl_s (zl_n zl_0))))))) ?_
            exact hj39 _ _ _ _ _ _ _ _ (by omega) (by omega) hm
          · have hm := if_e1 hm c
            refine zQ.fg (zl_n (zl_s (zl_n (zl_s (zl_s (zl_s (zl_n zl_0))))))) ?_
            exact hj34 _ _ _ _ _ _ _ (by omega) (by omega) hm
  unfold j_X1_has at hm
  refine zQ.s (fun h => zs_iconst (v := 0) o dX1_has_0 (by decide)) ?_
  refine zQ.s (fun h => zs_istore_n (i := 2) o dX1_has_1 rfl (by decide) (Or.inr rfl) (by simp only [List.set_cons_succ, List.set_cons_zero]; rfl)) ?_
  refine zQ.s (fun h => zs_aload_n (i := 0) o dX1_has_2 rfl rfl) ?_
  refine zQ.s (fun h => zs_astore_n (i := 3) o dX1_has_3 rfl (by decide) (Or.inr rfl) (by simp only [List.set_cons_succ, List.set_cons_zero]; rfl)) ?_
  refine zQ.s (fun h => zs_aload_n (i := 3) o dX1_has_4 rfl rfl) ?_
  obtain ⟨g1, hm⟩ := gd_e hm
  refine zh_alen o g1 dX1_has_5 ?_
  obtain ⟨v2, e_v2, hm⟩ := lt_e hm
  refine zQ.nmi e_v2 ?_
  refine zQ.s (fun h => zs_istore (i := 4) o dX1_has_6 (by decide) (Or.inr (zc2_ref rfl)) (by simp only [List.set_cons_succ, List.set_cons_zero]; rfl)) ?_
  refine zQ.s (fun h => zs_iconst (v := 0) o dX1_has_8 (by decide)) ?_
  refine zQ.s (fun h => zs_istore (i := 5) o dX1_has_9 (by decide) (Or.inr rfl) (by simp only [List.set_cons_succ, List.set_cons_zero]; rfl)) ?_
  refine zQ.fg (zl_n (zl_s (zl_s (zl_s (zl_s (zl_s (zl_n zl_0))))))) ?_
  exact hl11 10 (Nat.le_refl _) _ _ _ _ _ _ _ _ (by omega) (by omega) hm

def j_X1_stateOf_j43 (h : zH) (ic : Nat) (s0 : Int32) : Option (zH × Int32) :=
  gd (chr s0) <|
  some (h, s0)
def j_X1_stateOf (h : zH) (p : Nat) (a1 : Int32) (ic : Nat) : Option (zH × Int32) :=
  gd (kd h p 1) <|
  bd (j_X1_checkIndex h a1 (hI h 1 8 p)) fun y2 =>
  gd (kd y2 p 1) <|
  bd (j_J21_valueOf y2 a1 ic) fun y4 =>
  gd (kd y4.1 (hR y2 1 13 p) 12) <|
  bd (j_J4_contains y4.1 (hR y2 1 13 p) y4.2) fun y6 =>
  if y6.2 = (0 : Int32) then
    gd (kd y6.1 p 1) <|
    bd (j_X1_has y6.1 (hR y6.1 1 11 p) a1) fun y8 =>
    if y8.2 = (0 : Int32) then
      j_X1_stateOf_j43 y8.1 ic (119 : Int32)
    else
      j_X1_stateOf_j43 y8.1 ic (109 : Int32)
  else
    some (y6.1, (102 : Int32))

set_option maxHeartbeats 40000000 in
theorem J_X1_stateOf (G : zG) (h : zH) (p : Nat) (a1 : Int32) (ic : Nat) (V : Int32) (h9 : zH) (z_ih : ("java/lang/Integer$IntegerCache", "high", "I", .int 127) ∈ zGz G) (z_ic : ("java/lang/Integer$IntegerCache", "cache", "[Ljava/lang/Integer;", zrf ic) ∈ zGz G) (hm : j_X1_stateOf h p a1 ic = some (h9, V)) : zJi G yX1_stateOf cX1_stateOf 2 (some .char) 3 1 1 [zrf p, .int a1] h V h9 := by
  refine zCo.st [some (zrf p), some (.int a1)] rfl rfl (by simp only [zarg_r, zarg_i, zarg_l, zarg_0]; rfl) (fun X o f0 hin hw0 => ?_)
  have f := f0.e
  have hin : (Xt X).name = "stateOf" := hin
  refine (?_ : zQ (EH h) G X 0 0 0 [some (zrf p), some (.int a1)] []) h rfl hw0
  clear hw0
  generalize hR9 : ((h9, V) : (zH × Int32)) = R at hm
  have hj43 : ∀ (h : zH) (s0 : Int32) (cl sl : Nat), cl + (0) ≤ 1 → sl + (0) ≤ 1 → j_X1_stateOf_j43 h ic s0 = some R → zQ (EH h) G X cl sl 43 [none, none] [.int s0] := by
    intro h s0 cl sl hc hs hm
    unfold j_X1_stateOf_j43 at hm
    obtain ⟨g1, hm⟩ := gd_e hm
    refine zh_reti o f dX1_stateOf_43 (chr_e g1) (by omega) (by omega) ((so_e hm).trans hR9.symm)
  unfold j_X1_stateOf at hm
  refine zQ.s (fun h => zs_iload_n (i := 1) o dX1_stateOf_0 rfl rfl) ?_
  refine zQ.s (fun h => zs_aload_n (i := 0) o dX1_stateOf_1 rfl rfl) ?_
  obtain ⟨g1, hm⟩ := gd_e hm
  refine zh_getI o g1 fl_X1_47_1 rfl dX1_stateOf_2 ?_
  obtain ⟨y2, c_y2, hm⟩ := bd_e hm
  refine zh_Sv o ml_X1_593 (J_X1_checkIndex G _ _ _ _  c_y2) dX1_stateOf_5 rfl rfl rfl rfl (by omega) (by omega) ?_
  refine zQ.s (fun h => zs_aload_n (i := 0) o dX1_stateOf_8 rfl rfl) ?_
  obtain ⟨g3, hm⟩ := gd_e hm
  refine zh_getR o g3 fl_X1_69_1 rfl dX1_stateOf_9 ?_
  refine zQ.s (fun h => zs_iload_n (i := 1) o dX1_stateOf_12 rfl rfl) ?_
  obtain ⟨y4, c_y4, hm⟩ := bd_e hm
  refine zh_Sr o ml_X1_131 (J_J21_valueOf G _ _ _ _ _ z_ih z_ic c_y4) dX1_stateOf_13 rfl rfl rfl rfl (by omega) (by omega) ?_
  obtain ⟨g5, hm⟩ := gd_e hm
  obtain ⟨y6, c_y6, hm⟩ := bd_e hm
  refine zh_Vi o g5 ml_X1_654 (J_J4_contains G _ _ _ _ _  c_y6) dX1_stateOf_16 rfl rfl rfl rfl (by omega) (by omega) ?_
  refine zQ.b (fun h => zs_if_eq (tgt := 25) o dX1_stateOf_19 (by decide)) (fun c => ?_) (fun c => ?_)
  · have hm := if_e1 hm c
    refine zQ.s (fun h => zs_aload_n (i := 0) o dX1_stateOf_25 rfl rfl) ?_
    obtain ⟨g7, hm⟩ := gd_e hm
    refine zh_getR o g7 fl_X1_60_1 rfl dX1_stateOf_26 ?_
    refine zQ.s (fun h => zs_iload_n (i := 1) o dX1_stateOf_29 rfl rfl) ?_
    obtain ⟨y8, c_y8, hm⟩ := bd_e hm
    refine zh_Si o ml_X1_657 (J_X1_has G _ _ _ _ _  c_y8) dX1_stateOf_30 rfl rfl rfl rfl (by omega) (by omega) ?_
    refine zQ.b (fun h => zs_if_eq (tgt := 41) o dX1_stateOf_33 (by decide)) (fun c => ?_) (fun c => ?_)
    · have hm := if_e1 hm c
      refine zQ.s (fun h => zs_bipush (v := 119) o dX1_stateOf_41 (by decide)) ?_
      refine zQ.fg (zl_n (zl_n zl_0)) ?_
      exact hj43 _ _ _ _ (by omega) (by omega) hm
    · have hm := if_e2 hm c
      refine zQ.s (fun h => zs_bipush (v := 109) o dX1_stateOf_36 (by decide)) ?_
      refine zQ.s (fun h => zs_goto (tgt := 43) o dX1_stateOf_38 (by decide)) ?_
      refine zQ.fg (zl_n (zl_n zl_0)) ?_
      exact hj43 _ _ _ _ (by omega) (by omega) hm
  · have hm := if_e2 hm c
    refine zQ.s (fun h => zs_bipush (v := 102) o dX1_stateOf_22 (by decide)) ?_
    refine zh_reti o f dX1_stateOf_24 rfl (by omega) (by omega) ((so_e hm).trans hR9.symm)

def j_X1_isReady (h : zH) (p : Nat) (a1 : Int32) : Option (zH × Int32) :=
  gd (kd h p 1) <|
  bd (j_X1_checkIndex h a1 (hI h 1 8 p)) fun y2 =>
  gd (kd y2 p 1) <|
  gd (kd y2 (hR y2 1 10 p) 11) <|
  bd (j_J3_get y2 (hR y2 1 10 p) a1) fun y5 =>
  gd (b01 y5.2) <|
  some (y5.1, y5.2)

set_option maxHeartbeats 40000000 in
theorem J_X1_isReady (G : zG) (h : zH) (p : Nat) (a1 : Int32) (V : Int32) (h9 : zH) (z_ad : ("java/util/BitSet", "$assertionsDisabled", "Z", .int 1) ∈ zGz G) (hm : j_X1_isReady h p a1 = some (h9, V)) : zJi G yX1_isReady cX1_isReady 2 (some .boolean) 2 0 0 [zrf p, .int a1] h V h9 := by
  refine zCo.st [some (zrf p), some (.int a1)] rfl rfl (by simp only [zarg_r, zarg_i, zarg_l, zarg_0]; rfl) (fun X o f0 hin hw0 => ?_)
  have f := f0.e
  have hin : (Xt X).name = "isReady" := hin
  refine (?_ : zQ (EH h) G X 0 0 0 [some (zrf p), some (.int a1)] []) h rfl hw0
  clear hw0
  generalize hR9 : ((h9, V) : (zH × Int32)) = R at hm
  unfold j_X1_isReady at hm
  refine zQ.s (fun h => zs_iload_n (i := 1) o dX1_isReady_0 rfl rfl) ?_
  refine zQ.s (fun h => zs_aload_n (i := 0) o dX1_isReady_1 rfl rfl) ?_
  obtain ⟨g1, hm⟩ := gd_e hm
  refine zh_getI o g1 fl_X1_47_1 rfl dX1_isReady_2 ?_
  obtain ⟨y2, c_y2, hm⟩ := bd_e hm
  refine zh_Sv o ml_X1_593 (J_X1_checkIndex G _ _ _ _  c_y2) dX1_isReady_5 rfl rfl rfl rfl (by omega) (by omega) ?_
  refine zQ.s (fun h => zs_aload_n (i := 0) o dX1_isReady_8 rfl rfl) ?_
  obtain ⟨g3, hm⟩ := gd_e hm
  refine zh_getR o g3 fl_X1_56_1 rfl dX1_isReady_9 ?_
  refine zQ.s (fun h => zs_iload_n (i := 1) o dX1_isReady_12 rfl rfl) ?_
  obtain ⟨g4, hm⟩ := gd_e hm
  obtain ⟨y5, c_y5, hm⟩ := bd_e hm
  refine zh_Vi o g4 ml_X1_359 (J_J3_get G _ _ _ _ _ z_ad c_y5) dX1_isReady_13 rfl rfl rfl rfl (by omega) (by omega) ?_
  obtain ⟨g6, hm⟩ := gd_e hm
  refine zh_reti o f dX1_isReady_16 (b01_e g6).1 (by omega) (by omega) ((so_e hm).trans hR9.symm)

def j_X1_free (h : zH) (p : Nat) : Option (zH × Int32) :=
  gd (kd h p 1) <|
  gd (kd h (hR h 1 13 p) 12) <|
  bd (j_J4_size h (hR h 1 13 p)) fun y3 =>
  some (y3.1, y3.2)

set_option maxHeartbeats 40000000 in
theorem J_X1_free (G : zG) (h : zH) (p : Nat) (V : Int32) (h9 : zH) (hm : j_X1_free h p = some (h9, V)) : zJi G yX1_free cX1_free 1 (some .int) 2 0 0 [zrf p] h V h9 := by
  refine zCo.st [some (zrf p)] rfl rfl (by simp only [zarg_r, zarg_i, zarg_l, zarg_0]; rfl) (fun X o f0 hin hw0 => ?_)
  have f := f0.e
  have hin : (Xt X).name = "free" := hin
  refine (?_ : zQ (EH h) G X 0 0 0 [some (zrf p)] []) h rfl hw0
  clear hw0
  generalize hR9 : ((h9, V) : (zH × Int32)) = R at hm
  unfold j_X1_free at hm
  refine zQ.s (fun h => zs_aload_n (i := 0) o dX1_free_0 rfl rfl) ?_
  obtain ⟨g1, hm⟩ := gd_e hm
  refine zh_getR o g1 fl_X1_69_1 rfl dX1_free_1 ?_
  obtain ⟨g2, hm⟩ := gd_e hm
  obtain ⟨y3, c_y3, hm⟩ := bd_e hm
  refine zh_Vi o g2 ml_X1_542 (J_J4_size G _ _ _ _  c_y3) dX1_free_4 rfl rfl rfl rfl (by omega) (by omega) ?_
  refine zh_reti o f dX1_free_7 rfl (by omega) (by omega) ((so_e hm).trans hR9.symm)

def j_X1_freeAt_b35 (k35 : zH → Int32 → Nat → Int32 → Int32 → Option (zH × Int32)) (h : zH) (x1 : Int32) (x2 : Nat) (x3 : Int32) (x4 : Int32) : Option (zH × Int32) :=
  if x1 ≤ x4 then
    some (h, x3)
  else
    gd (kd h x2 18) <|
    bd (j_J35_next h x2) fun y2 =>
    gd (kd y2.1 y2.2 19) <|
    gd (kd y2.1 y2.2 19) <|
    bd (j_J21_intValue y2.1 y2.2) fun y5 =>
    k35 y5.1 x1 x2 y5.2 (x4 + (1 : Int32))
def j_X1_freeAt_l35 : Nat → zH → Int32 → Nat → Int32 → Int32 → Option (zH × Int32)
  | 0 => fun _ _ _ _ _ => none
  | n + 1 => j_X1_freeAt_b35 (j_X1_freeAt_l35 n)
def j_X1_freeAt (h : zH) (p : Nat) (a1 : Int32) : Option (zH × Int32) :=
  gd (kd h p 1) <|
  gd (kd h (hR h 1 13 p) 12) <|
  bd (j_J4_size h (hR h 1 13 p)) fun y3 =>
  bd (j_X1_checkIndex y3.1 a1 y3.2) fun y4 =>
  gd (kd y4 p 1) <|
  gd (kd y4 (hR y4 1 13 p) 12) <|
  bd (j_J4_iterator y4 (hR y4 1 13 p)) fun y7 =>
  gd (kd y7.1 y7.2 18) <|
  bd (j_J35_next y7.1 y7.2) fun y9 =>
  gd (kd y9.1 y9.2 19) <|
  gd (kd y9.1 y9.2 19) <|
  bd (j_J21_intValue y9.1 y9.2) fun y12 =>
  j_X1_freeAt_l35 20 y12.1 a1 y7.2 y12.2 (0 : Int32)

set_option maxHeartbeats 40000000 in
theorem J_X1_freeAt (G : zG) (h : zH) (p : Nat) (a1 : Int32) (V : Int32) (h9 : zH) (hm : j_X1_freeAt h p a1 = some (h9, V)) : zJi G yX1_freeAt cX1_freeAt 5 (some .int) 4 1 4 [zrf p, .int a1] h V h9 := by
  refine zCo.st [some (zrf p), some (.int a1), none, none, none] rfl rfl (by simp only [zarg_r, zarg_i, zarg_l, zarg_0]; rfl) (fun X o f0 hin hw0 => ?_)
  have f := f0.e
  have hin : (Xt X).name = "freeAt" := hin
  refine (?_ : zQ (EH h) G X 0 0 0 [some (zrf p), some (.int a1), none, none, none] []) h rfl hw0
  clear hw0
  generalize hR9 : ((h9, V) : (zH × Int32)) = R at hm
  have hl35 : ∀ (n35 : Nat), n35 ≤ 20 → ∀ (h : zH) (x1 : Int32) (x2 : Nat) (x3 : Int32) (x4 : Int32) (cl sl : Nat), cl + (0) ≤ 1 → sl + (0) ≤ 4 → j_X1_freeAt_l35 n35 h x1 x2 x3 x4 = some R → zQ (EH h) G X cl sl 35 [none, some (.int x1), some (zrf x2), some (.int x3), some (.int x4)] [] := by
    intro n35
    induction n35 with
    | zero => intro _ h x1 x2 x3 x4 cl sl _ _ hm; exact no_e hm
    | succ n35 ih =>
      intro hf35
      have ih35 := ih (by omega)
      intro h x1 x2 x3 x4 cl sl hc hs hm
      have hm : j_X1_freeAt_b35 (j_X1_freeAt_l35 n35) h x1 x2 x3 x4 = some R := hm
      unfold j_X1_freeAt_b35 at hm
      refine zQ.s (fun h => zs_iload (i := 4) o dX1_freeAt_35 rfl) ?_
      refine zQ.s (fun h => zs_iload_n (i := 1) o dX1_freeAt_37 rfl rfl) ?_
      refine zQ.b (fun h => zs_icmp_ge (tgt := 60) o dX1_freeAt_38 (by decide)) (fun c => ?_) (fun c => ?_)
      · have hm := if_e1 hm c
        refine zQ.s (fun h => zs_iload_n (i := 3) o dX1_freeAt_60 rfl rfl) ?_
        refine zh_reti o f dX1_freeAt_61 rfl (by omega) (by omega) ((so_e hm).trans hR9.symm)
      · have hm := if_e2 hm c
        refine zQ.s (fun h => zs_aload_n (i := 2) o dX1_freeAt_41 rfl rfl) ?_
        obtain ⟨g1, hm⟩ := gd_e hm
        obtain ⟨y2, c_y2, hm⟩ := bd_e hm
        refine zh_Fr o g1 ml_X1_170_18 (J_J35_next G _ _ _ _  c_y2) dX1_freeAt_42 rfl rfl rfl rfl (by omega) (by omega) ?_
        obtain ⟨g3, hm⟩ := gd_e hm
        refine zh_cast (c := 19) o q1456 (by decide) (by decide) g3 dX1_freeAt_47 ?_
        obtain ⟨g4, hm⟩ := gd_e hm
        obtain ⟨y5, c_y5, hm⟩ := bd_e hm
        refine zh_Vi o g4 ml_X1_531 (J_J21_intValue G _ _ _ _  c_y5) dX1_freeAt_50 rfl rfl rfl rfl (by omega) (by omega) ?_
        refine zQ.s (fun h => zs_istore_n (i := 3) o dX1_freeAt_53 rfl (by decide) (Or.inr (zc2_ref rfl)) (by simp only [List.set_cons_succ, List.set_cons_zero]; rfl)) ?_
        refine zQ.s (fun h => zs_iinc (i := 4) (v := x4 + (1 : Int32)) o dX1_freeAt_54 rfl rfl (by decide) (Or.inr rfl) (by simp only [List.set_cons_succ, List.set_cons_zero]; rfl)) ?_
        refine zQ.s (fun h => zs_goto (tgt := 35) o dX1_freeAt_57 (by decide)) ?_
        exact ih35 _ _ _ _ _ _ _ (by omega) (by omega) hm
  unfold j_X1_freeAt at hm
  refine zQ.s (fun h => zs_iload_n (i := 1) o dX1_freeAt_0 rfl rfl) ?_
  refine zQ.s (fun h => zs_aload_n (i := 0) o dX1_freeAt_1 rfl rfl) ?_
  obtain ⟨g1, hm⟩ := gd_e hm
  refine zh_getR o g1 fl_X1_69_1 rfl dX1_freeAt_2 ?_
  obtain ⟨g2, hm⟩ := gd_e hm
  obtain ⟨y3, c_y3, hm⟩ := bd_e hm
  refine zh_Vi o g2 ml_X1_542 (J_J4_size G _ _ _ _  c_y3) dX1_freeAt_5 rfl rfl rfl rfl (by omega) (by omega) ?_
  obtain ⟨y4, c_y4, hm⟩ := bd_e hm
  refine zh_Sv o ml_X1_593 (J_X1_checkIndex G _ _ _ _  c_y4) dX1_freeAt_8 rfl rfl rfl rfl (by omega) (by omega) ?_
  refine zQ.s (fun h => zs_aload_n (i := 0) o dX1_freeAt_11 rfl rfl) ?_
  obtain ⟨g5, hm⟩ := gd_e hm
  refine zh_getR o g5 fl_X1_69_1 rfl dX1_freeAt_12 ?_
  obtain ⟨g6, hm⟩ := gd_e hm
  obtain ⟨y7, c_y7, hm⟩ := bd_e hm
  refine zh_Vr o g6 ml_X1_660 (J_J4_iterator G _ _ _ _  c_y7) dX1_freeAt_15 rfl rfl rfl rfl (by omega) (by omega) ?_
  refine zQ.s (fun h => zs_astore_n (i := 2) o dX1_freeAt_18 rfl (by decide) (Or.inr rfl) (by simp only [List.set_cons_succ, List.set_cons_zero]; rfl)) ?_
  refine zQ.s (fun h => zs_aload_n (i := 2) o dX1_freeAt_19 rfl rfl) ?_
  obtain ⟨g8, hm⟩ := gd_e hm
  obtain ⟨y9, c_y9, hm⟩ := bd_e hm
  refine zh_Fr o g8 ml_X1_170_18 (J_J35_next G _ _ _ _  c_y9) dX1_freeAt_20 rfl rfl rfl rfl (by omega) (by omega) ?_
  obtain ⟨g10, hm⟩ := gd_e hm
  refine zh_cast (c := 19) o q1456 (by decide) (by decide) g10 dX1_freeAt_25 ?_
  obtain ⟨g11, hm⟩ := gd_e hm
  obtain ⟨y12, c_y12, hm⟩ := bd_e hm
  refine zh_Vi o g11 ml_X1_531 (J_J21_intValue G _ _ _ _  c_y12) dX1_freeAt_28 rfl rfl rfl rfl (by omega) (by omega) ?_
  refine zQ.s (fun h => zs_istore_n (i := 3) o dX1_freeAt_31 rfl (by decide) (Or.inr (zc2_ref rfl)) (by simp only [List.set_cons_succ, List.set_cons_zero]; rfl)) ?_
  refine zQ.s (fun h => zs_iconst (v := 0) o dX1_freeAt_32 (by decide)) ?_
  refine zQ.s (fun h => zs_istore (i := 4) o dX1_freeAt_33 (by decide) (Or.inr rfl) (by simp only [List.set_cons_succ, List.set_cons_zero]; rfl)) ?_
  refine zQ.fg (zl_n (zl_s (zl_s (zl_s (zl_s zl_0))))) ?_
  exact hl35 20 (Nat.le_refl _) _ _ _ _ _ _ _ (by omega) (by omega) hm

def j_X1_inBuffer (h : zH) (p : Nat) : Option (zH × Int32) :=
  gd (kd h p 1) <|
  gd (kd h (hR h 1 15 p) 13) <|
  bd (j_J6_size h (hR h 1 15 p)) fun y3 =>
  some (y3.1, y3.2)

set_option maxHeartbeats 40000000 in
theorem J_X1_inBuffer (G : zG) (h : zH) (p : Nat) (V : Int32) (h9 : zH) (hm : j_X1_inBuffer h p = some (h9, V)) : zJi G yX1_inBuffer cX1_inBuffer 1 (some .int) 1 0 0 [zrf p] h V h9 := by
  refine zCo.st [some (zrf p)] rfl rfl (by simp only [zarg_r, zarg_i, zarg_l, zarg_0]; rfl) (fun X o f0 hin hw0 => ?_)
  have f := f0.e
  have hin : (Xt X).name = "inBuffer" := hin
  refine (?_ : zQ (EH h) G X 0 0 0 [some (zrf p)] []) h rfl hw0
  clear hw0
  generalize hR9 : ((h9, V) : (zH × Int32)) = R at hm
  unfold j_X1_inBuffer at hm
  refine zQ.s (fun h => zs_aload_n (i := 0) o dX1_inBuffer_0 rfl rfl) ?_
  obtain ⟨g1, hm⟩ := gd_e hm
  refine zh_getR o g1 fl_X1_79_1 rfl dX1_inBuffer_1 ?_
  obtain ⟨g2, hm⟩ := gd_e hm
  obtain ⟨y3, c_y3, hm⟩ := bd_e hm
  refine zh_Vi o g2 ml_X1_496 (J_J6_size G _ _ _ _  c_y3) dX1_inBuffer_4 rfl rfl rfl rfl (by omega) (by omega) ?_
  refine zh_reti o f dX1_inBuffer_7 rfl (by omega) (by omega) ((so_e hm).trans hR9.symm)

def j_X1_flightAt (h : zH) (p : Nat) (a1 : Int32) : Option (zH × Nat) :=
  gd (kd h p 1) <|
  gd (kd h (hR h 1 15 p) 13) <|
  bd (j_J6_size h (hR h 1 15 p)) fun y3 =>
  bd (j_X1_checkIndex y3.1 a1 y3.2) fun y4 =>
  gd (kd y4 p 1) <|
  gd (kd y4 (hR y4 1 15 p) 13) <|
  bd (j_J6_get y4 (hR y4 1 15 p) a1) fun y7 =>
  gd (kd y7.1 y7.2 8) <|
  some (y7.1, y7.2)

set_option maxHeartbeats 40000000 in
theorem J_X1_flightAt (G : zG) (h : zH) (p : Nat) (a1 : Int32) (V : Nat) (h9 : zH) (hm : j_X1_flightAt h p a1 = some (h9, V)) : zJr G yX1_flightAt cX1_flightAt 2 (some (.object "Reorderium$Flight")) 3 0 0 [zrf p, .int a1] h V h9 := by
  refine zCo.st [some (zrf p), some (.int a1)] rfl rfl (by simp only [zarg_r, zarg_i, zarg_l, zarg_0]; rfl) (fun X o f0 hin hw0 => ?_)
  have f := f0.e
  have hin : (Xt X).name = "flightAt" := hin
  refine (?_ : zQ (EH h) G X 0 0 0 [some (zrf p), some (.int a1)] []) h rfl hw0
  clear hw0
  generalize hR9 : ((h9, V) : (zH × Nat)) = R at hm
  unfold j_X1_flightAt at hm
  refine zQ.s (fun h => zs_iload_n (i := 1) o dX1_flightAt_0 rfl rfl) ?_
  refine zQ.s (fun h => zs_aload_n (i := 0) o dX1_flightAt_1 rfl rfl) ?_
  obtain ⟨g1, hm⟩ := gd_e hm
  refine zh_getR o g1 fl_X1_79_1 rfl dX1_flightAt_2 ?_
  obtain ⟨g2, hm⟩ := gd_e hm
  obtain ⟨y3, c_y3, hm⟩ := bd_e hm
  refine zh_Vi o g2 ml_X1_496 (J_J6_size G _ _ _ _  c_y3) dX1_flightAt_5 rfl rfl rfl rfl (by omega) (by omega) ?_
  obtain ⟨y4, c_y4, hm⟩ := bd_e hm
  refine zh_Sv o ml_X1_593 (J_X1_checkIndex G _ _ _ _  c_y4) dX1_flightAt_8 rfl rfl rfl rfl (by omega) (by omega) ?_
  refine zQ.s (fun h => zs_aload_n (i := 0) o dX1_flightAt_11 rfl rfl) ?_
  obtain ⟨g5, hm⟩ := gd_e hm
  refine zh_getR o g5 fl_X1_79_1 rfl dX1_flightAt_12 ?_
  refine zQ.s (fun h => zs_iload_n (i := 1) o dX1_flightAt_15 rfl rfl) ?_
  obtain ⟨g6, hm⟩ := gd_e hm
  obtain ⟨y7, c_y7, hm⟩ := bd_e hm
  refine zh_Vr o g6 ml_X1_661 (J_J6_get G _ _ _ _ _  c_y7) dX1_flightAt_16 rfl rfl rfl rfl (by omega) (by omega) ?_
  obtain ⟨g8, hm⟩ := gd_e hm
  refine zh_cast (c := 8) o q1468 (by decide) (by decide) g8 dX1_flightAt_19 ?_
  refine zh_retr o f dX1_flightAt_22 rfl (by omega) (by omega) ((so_e hm).trans hR9.symm)

def j_X1_bufferAt (h : zH) (p : Nat) (a1 : Int32) : Option (zH × Int32) :=
  gd (kd h p 1) <|
  bd (j_X1_flightAt h p a1) fun y2 =>
  gd (kd y2.1 y2.2 8) <|
  some (y2.1, hI y2.1 8 1 y2.2)

set_option maxHeartbeats 40000000 in
theorem J_X1_bufferAt (G : zG) (h : zH) (p : Nat) (a1 : Int32) (V : Int32) (h9 : zH) (hm : j_X1_bufferAt h p a1 = some (h9, V)) : zJi G yX1_bufferAt cX1_bufferAt 2 (some .int) 4 0 0 [zrf p, .int a1] h V h9 := by
  refine zCo.st [some (zrf p), some (.int a1)] rfl rfl (by simp only [zarg_r, zarg_i, zarg_l, zarg_0]; rfl) (fun X o f0 hin hw0 => ?_)
  have f := f0.e
  have hin : (Xt X).name = "bufferAt" := hin
  refine (?_ : zQ (EH h) G X 0 0 0 [some (zrf p), some (.int a1)] []) h rfl hw0
  clear hw0
  generalize hR9 : ((h9, V) : (zH × Int32)) = R at hm
  unfold j_X1_bufferAt at hm
  refine zQ.s (fun h => zs_aload_n (i := 0) o dX1_bufferAt_0 rfl rfl) ?_
  refine zQ.s (fun h => zs_iload_n (i := 1) o dX1_bufferAt_1 rfl rfl) ?_
  obtain ⟨g1, hm⟩ := gd_e hm
  obtain ⟨y2, c_y2, hm⟩ := bd_e hm
  refine zh_Vr o g1 ml_X1_662 (J_X1_flightAt G _ _ _ _ _  c_y2) dX1_bufferAt_2 rfl rfl rfl rfl (by omega) (by omega) ?_
  obtain ⟨g3, hm⟩ := gd_e hm
  refine zh_getI o g3 fl_X1_284_8 rfl dX1_bufferAt_5 ?_
  refine zh_reti o f dX1_bufferAt_8 rfl (by omega) (by omega) ((so_e hm).trans hR9.symm)

def j_X1_stageAt (h : zH) (p : Nat) (a1 : Int32) : Option (zH × Int32) :=
  gd (kd h p 1) <|
  bd (j_X1_flightAt h p a1) fun y2 =>
  gd (kd y2.1 y2.2 8) <|
  gd (chr (hI y2.1 8 14 y2.2)) <|
  some (y2.1, hI y2.1 8 14 y2.2)

set_option maxHeartbeats 40000000 in
theorem J_X1_stageAt (G : zG) (h : zH) (p : Nat) (a1 : Int32) (V : Int32) (h9 : zH) (hm : j_X1_stageAt h p a1 = some (h9, V)) : zJi G yX1_stageAt cX1_stageAt 2 (some .char) 4 0 0 [zrf p, .int a1] h V h9 := by
  refine zCo.st [some (zrf p), some (.int a1)] rfl rfl (by simp only [zarg_r, zarg_i, zarg_l, zarg_0]; rfl) (fun X o f0 hin hw0 => ?_)
  have f := f0.e
  have hin : (Xt X).name = "stageAt" := hin
  refine (?_ : zQ (EH h) G X 0 0 0 [some (zrf p), some (.int a1)] []) h rfl hw0
  clear hw0
  generalize hR9 : ((h9, V) : (zH × Int32)) = R at hm
  unfold j_X1_stageAt at hm
  refine zQ.s (fun h => zs_aload_n (i := 0) o dX1_stageAt_0 rfl rfl) ?_
  refine zQ.s (fun h => zs_iload_n (i := 1) o dX1_stageAt_1 rfl rfl) ?_
  obtain ⟨g1, hm⟩ := gd_e hm
  obtain ⟨y2, c_y2, hm⟩ := bd_e hm
  refine zh_Vr o g1 ml_X1_662 (J_X1_flightAt G _ _ _ _ _  c_y2) dX1_stageAt_2 rfl rfl rfl rfl (by omega) (by omega) ?_
  obtain ⟨g3, hm⟩ := gd_e hm
  refine zh_getI o g3 fl_X1_190_8 rfl dX1_stageAt_5 ?_
  obtain ⟨g4, hm⟩ := gd_e hm
  refine zh_reti o f dX1_stageAt_8 (chr_e g4) (by omega) (by omega) ((so_e hm).trans hR9.symm)

def j_X1_inQueue (h : zH) (p : Nat) : Option (zH × Int32) :=
  gd (kd h p 1) <|
  gd (kd h (hR h 1 16 p) 13) <|
  bd (j_J6_size h (hR h 1 16 p)) fun y3 =>
  some (y3.1, y3.2)

set_option maxHeartbeats 40000000 in
theorem J_X1_inQueue (G : zG) (h : zH) (p : Nat) (V : Int32) (h9 : zH) (hm : j_X1_inQueue h p = some (h9, V)) : zJi G yX1_inQueue cX1_inQueue 1 (some .int) 1 0 0 [zrf p] h V h9 := by
  refine zCo.st [some (zrf p)] rfl rfl (by simp only [zarg_r, zarg_i, zarg_l, zarg_0]; rfl) (fun X o f0 hin hw0 => ?_)
  have f := f0.e
  have hin : (Xt X).name = "inQueue" := hin
  refine (?_ : zQ (EH h) G X 0 0 0 [some (zrf p)] []) h rfl hw0
  clear hw0
  generalize hR9 : ((h9, V) : (zH × Int32)) = R at hm
  unfold j_X1_inQueue at hm
  refine zQ.s (fun h => zs_aload_n (i := 0) o dX1_inQueue_0 rfl rfl) ?_
  obtain ⟨g1, hm⟩ := gd_e hm
  refine zh_getR o g1 fl_X1_83_1 rfl dX1_inQueue_1 ?_
  obtain ⟨g2, hm⟩ := gd_e hm
  obtain ⟨y3, c_y3, hm⟩ := bd_e hm
  refine zh_Vi o g2 ml_X1_496 (J_J6_size G _ _ _ _  c_y3) dX1_inQueue_4 rfl rfl rfl rfl (by omega) (by omega) ?_
  refine zh_reti o f dX1_inQueue_7 rfl (by omega) (by omega) ((so_e hm).trans hR9.symm)

def j_X1_fetched (h : zH) (p : Nat) : Option (zH × Int32) :=
  gd (kd h p 1) <|
  gd (kd h (hR h 1 14 p) 12) <|
  bd (j_J4_size h (hR h 1 14 p)) fun y3 =>
  some (y3.1, y3.2)

set_option maxHeartbeats 40000000 in
theorem J_X1_fetched (G : zG) (h : zH) (p : Nat) (V : Int32) (h9 : zH) (hm : j_X1_fetched h p = some (h9, V)) : zJi G yX1_fetched cX1_fetched 1 (some .int) 2 0 0 [zrf p] h V h9 := by
  refine zCo.st [some (zrf p)] rfl rfl (by simp only [zarg_r, zarg_i, zarg_l, zarg_0]; rfl) (fun X o f0 hin hw0 => ?_)
  have f := f0.e
  have hin : (Xt X).name = "fetched" := hin
  refine (?_ : zQ (EH h) G X 0 0 0 [some (zrf p)] []) h rfl hw0
  clear hw0
  generalize hR9 : ((h9, V) : (zH × Int32)) = R at hm
  unfold j_X1_fetched at hm
  refine zQ.s (fun h => zs_aload_n (i := 0) o dX1_fetched_0 rfl rfl) ?_
  obtain ⟨g1, hm⟩ := gd_e hm
  refine zh_getR o g1 fl_X1_73_1 rfl dX1_fetched_1 ?_
  obtain ⟨g2, hm⟩ := gd_e hm
  obtain ⟨y3, c_y3, hm⟩ := bd_e hm
  refine zh_Vi o g2 ml_X1_542 (J_J4_size G _ _ _ _  c_y3) dX1_fetched_4 rfl rfl rfl rfl (by omega) (by omega) ?_
  refine zh_reti o f dX1_fetched_7 rfl (by omega) (by omega) ((so_e hm).trans hR9.symm)

def j_X1_fetching_j13 (h : zH) (x0 : Nat) (s0 : Int32) : Option (zH × Int32) :=
  bd (j_X1_checkElement h s0) fun y1 =>
  gd (kd y1 x0 1) <|
  some (y1, hI y1 1 17 x0)
def j_X1_fetching (h : zH) (p : Nat) : Option (zH × Int32) :=
  gd (kd h p 1) <|
  if (hI h 1 17 p) = (-1 : Int32) then
    j_X1_fetching_j13 h p (0 : Int32)
  else
    j_X1_fetching_j13 h p (1 : Int32)

set_option maxHeartbeats 40000000 in
theorem J_X1_fetching (G : zG) (h : zH) (p : Nat) (V : Int32) (h9 : zH) (hm : j_X1_fetching h p = some (h9, V)) : zJi G yX1_fetching cX1_fetching 1 (some .int) 1 0 0 [zrf p] h V h9 := by
  refine zCo.st [some (zrf p)] rfl rfl (by simp only [zarg_r, zarg_i, zarg_l, zarg_0]; rfl) (fun X o f0 hin hw0 => ?_)
  have f := f0.e
  have hin : (Xt X).name = "fetching" := hin
  refine (?_ : zQ (EH h) G X 0 0 0 [some (zrf p)] []) h rfl hw0
  clear hw0
  generalize hR9 : ((h9, V) : (zH × Int32)) = R at hm
  have hj13 : ∀ (h : zH) (x0 : Nat) (s0 : Int32) (cl sl : Nat), cl + (0) ≤ 0 → sl + (0) ≤ 0 → j_X1_fetching_j13 h x0 s0 = some R → zQ (EH h) G X cl sl 13 [some (zrf x0)] [.int s0] := by
    intro h x0 s0 cl sl hc hs hm
    unfold j_X1_fetching_j13 at hm
    obtain ⟨y1, c_y1, hm⟩ := bd_e hm
    refine zh_Sv o ml_X1_635 (J_X1_checkElement G _ _ _  c_y1) dX1_fetching_13 rfl rfl rfl rfl (by omega) (by omega) ?_
    refine zQ.s (fun h => zs_aload_n (i := 0) o dX1_fetching_16 rfl rfl) ?_
    obtain ⟨g2, hm⟩ := gd_e hm
    refine zh_getI o g2 fl_X1_294_1 rfl dX1_fetching_17 ?_
    refine zh_reti o f dX1_fetching_20 rfl (by omega) (by omega) ((so_e hm).trans hR9.symm)
  unfold j_X1_fetching at hm
  refine zQ.s (fun h => zs_aload_n (i := 0) o dX1_fetching_0 rfl rfl) ?_
  obtain ⟨g1, hm⟩ := gd_e hm
  refine zh_getI o g1 fl_X1_294_1 rfl dX1_fetching_1 ?_
  refine zQ.s (fun h => zs_iconst (v := -1) o dX1_fetching_4 (by decide)) ?_
  refine zQ.b (fun h => zs_icmp_eq (tgt := 12) o dX1_fetching_5 (by decide)) (fun c => ?_) (fun c => ?_)
  · have hm := if_e1 hm c
    refine zQ.s (fun h => zs_iconst (v := 0) o dX1_fetching_12 (by decide)) ?_
    exact hj13 _ _ _ _ _ (by omega) (by omega) hm
  · have hm := if_e2 hm c
    refine zQ.s (fun h => zs_iconst (v := 1) o dX1_fetching_8 (by decide)) ?_
    refine zQ.s (fun h => zs_goto (tgt := 13) o dX1_fetching_9 (by decide)) ?_
    exact hj13 _ _ _ _ _ (by omega) (by omega) hm

def j_X1_returns (h : zH) (p : Nat) : Option (zH × Int32) :=
  gd (kd h p 1) <|
  gd (isA h (hR h 1 19 p)) <|
  some (h, nI (zN h (hR h 1 19 p)))

set_option maxHeartbeats 40000000 in
theorem J_X1_returns (G : zG) (h : zH) (p : Nat) (V : Int32) (h9 : zH) (hm : j_X1_returns h p = some (h9, V)) : zJi G yX1_returns cX1_returns 1 (some .int) 0 0 0 [zrf p] h V h9 := by
  refine zCo.st [some (zrf p)] rfl rfl (by simp only [zarg_r, zarg_i, zarg_l, zarg_0]; rfl) (fun X o f0 hin hw0 => ?_)
  have f := f0.e
  have hin : (Xt X).name = "returns" := hin
  refine (?_ : zQ (EH h) G X 0 0 0 [some (zrf p)] []) h rfl hw0
  clear hw0
  generalize hR9 : ((h9, V) : (zH × Int32)) = R at hm
  unfold j_X1_returns at hm
  refine zQ.s (fun h => zs_aload_n (i := 0) o dX1_returns_0 rfl rfl) ?_
  obtain ⟨g1, hm⟩ := gd_e hm
  refine zh_getR o g1 fl_X1_86_1 rfl dX1_returns_1 ?_
  obtain ⟨g2, hm⟩ := gd_e hm
  refine zh_alen o g2 dX1_returns_4 ?_
  refine zh_reti o f dX1_returns_5 rfl (by omega) (by omega) ((so_e hm).trans hR9.symm)

def j_X1_returnAt (h : zH) (p : Nat) (a1 : Int32) : Option (zH × Int32) :=
  gd (kd h p 1) <|
  gd (isA h (hR h 1 19 p)) <|
  bd (j_X1_checkIndex h a1 (nI (zN h (hR h 1 19 p)))) fun y3 =>
  gd (kd y3 p 1) <|
  gd (kd y3 p 1) <|
  gd (isA y3 (hR y3 1 19 p)) <|
  gd (kd y3 (hR y3 1 19 p) 201) <|
  gd (inb (((nI (zN y3 (hR y3 1 19 p))) - (1 : Int32)) - a1) (zN y3 (hR y3 1 19 p))) <|
  some (y3, hI y3 201 (ix (((nI (zN y3 (hR y3 1 19 p))) - (1 : Int32)) - a1)) (hR y3 1 19 p))

set_option maxHeartbeats 40000000 in
theorem J_X1_returnAt (G : zG) (h : zH) (p : Nat) (a1 : Int32) (V : Int32) (h9 : zH) (hm : j_X1_returnAt h p a1 = some (h9, V)) : zJi G yX1_returnAt cX1_returnAt 2 (some .int) 2 0 0 [zrf p, .int a1] h V h9 := by
  refine zCo.st [some (zrf p), some (.int a1)] rfl rfl (by simp only [zarg_r, zarg_i, zarg_l, zarg_0]; rfl) (fun X o f0 hin hw0 => ?_)
  have f := f0.e
  have hin : (Xt X).name = "returnAt" := hin
  refine (?_ : zQ (EH h) G X 0 0 0 [some (zrf p), some (.int a1)] []) h rfl hw0
  clear hw0
  generalize hR9 : ((h9, V) : (zH × Int32)) = R at hm
  unfold j_X1_returnAt at hm
  refine zQ.s (fun h => zs_iload_n (i := 1) o dX1_returnAt_0 rfl rfl) ?_
  refine zQ.s (fun h => zs_aload_n (i := 0) o dX1_returnAt_1 rfl rfl) ?_
  obtain ⟨g1, hm⟩ := gd_e hm
  refine zh_getR o g1 fl_X1_86_1 rfl dX1_returnAt_2 ?_
  obtain ⟨g2, hm⟩ := gd_e hm
  refine zh_alen o g2 dX1_returnAt_5 ?_
  obtain ⟨y3, c_y3, hm⟩ := bd_e hm
  refine zh_Sv o ml_X1_593 (J_X1_checkIndex G _ _ _ _  c_y3) dX1_returnAt_6 rfl rfl rfl rfl (by omega) (by omega) ?_
  refine zQ.s (fun h => zs_aload_n (i := 0) o dX1_returnAt_9 rfl rfl) ?_
  obtain ⟨g4, hm⟩ := gd_e hm
  refine zh_getR o g4 fl_X1_86_1 rfl dX1_returnAt_10 ?_
  refine zQ.s (fun h => zs_aload_n (i := 0) o dX1_returnAt_13 rfl rfl) ?_
  obtain ⟨g5, hm⟩ := gd_e hm
  refine zh_getR o g5 fl_X1_86_1 rfl dX1_returnAt_14 ?_
  obtain ⟨g6, hm⟩ := gd_e hm
  refine zh_alen o g6 dX1_returnAt_17 ?_
  refine zQ.s (fun h => zs_iconst (v := 1) o dX1_returnAt_18 (by decide)) ?_
  refine zQ.s (fun h => zs_isub o dX1_returnAt_19) ?_
  refine zQ.s (fun h => zs_iload_n (i := 1) o dX1_returnAt_20 rfl rfl) ?_
  refine zQ.s (fun h => zs_isub o dX1_returnAt_21) ?_
  obtain ⟨g7, hm⟩ := gd_e hm
  obtain ⟨g8, hm⟩ := gd_e hm
  refine zh_iald o g7 g8 dX1_returnAt_22 ?_
  refine zh_reti o f dX1_returnAt_23 rfl (by omega) (by omega) ((so_e hm).trans hR9.symm)

def j_X1_counter (h : zH) (p : Nat) (a1 : Int32) : Option (zH × Int32) :=
  bd (j_X1_isBetween h a1 (0 : Int32) (15 : Int32)) fun y1 =>
  bd (j_X1_checkArgument y1.1 y1.2) fun y2 =>
  gd (kd y2 p 1) <|
  gd (kd y2 (hR y2 1 20 p) 201) <|
  gd (inb a1 (zN y2 (hR y2 1 20 p))) <|
  some (y2, hI y2 201 (ix a1) (hR y2 1 20 p))

set_option maxHeartbeats 40000000 in
theorem J_X1_counter (G : zG) (h : zH) (p : Nat) (a1 : Int32) (V : Int32) (h9 : zH) (hm : j_X1_counter h p a1 = some (h9, V)) : zJi G yX1_counter cX1_counter 2 (some .int) 1 0 0 [zrf p, .int a1] h V h9 := by
  refine zCo.st [some (zrf p), some (.int a1)] rfl rfl (by simp only [zarg_r, zarg_i, zarg_l, zarg_0]; rfl) (fun X o f0 hin hw0 => ?_)
  have f := f0.e
  have hin : (Xt X).name = "counter" := hin
  refine (?_ : zQ (EH h) G X 0 0 0 [some (zrf p), some (.int a1)] []) h rfl hw0
  clear hw0
  generalize hR9 : ((h9, V) : (zH × Int32)) = R at hm
  unfold j_X1_counter at hm
  refine zQ.s (fun h => zs_iload_n (i := 1) o dX1_counter_0 rfl rfl) ?_
  refine zQ.s (fun h => zs_iconst (v := 0) o dX1_counter_1 (by decide)) ?_
  refine zQ.s (fun h => zs_bipush (v := 15) o dX1_counter_2 (by decide)) ?_
  obtain ⟨y1, c_y1, hm⟩ := bd_e hm
  refine zh_Si o ml_X1_3 (J_X1_isBetween G _ _ _ _ _ _  c_y1) dX1_counter_4 rfl rfl rfl rfl (by omega) (by omega) ?_
  obtain ⟨y2, c_y2, hm⟩ := bd_e hm
  refine zh_Sv o ml_X1_578 (J_X1_checkArgument G _ _ _  c_y2) dX1_counter_7 rfl rfl rfl rfl (by omega) (by omega) ?_
  refine zQ.s (fun h => zs_aload_n (i := 0) o dX1_counter_10 rfl rfl) ?_
  obtain ⟨g3, hm⟩ := gd_e hm
  refine zh_getR o g3 fl_X1_89_1 rfl dX1_counter_11 ?_
  refine zQ.s (fun h => zs_iload_n (i := 1) o dX1_counter_14 rfl rfl) ?_
  obtain ⟨g4, hm⟩ := gd_e hm
  obtain ⟨g5, hm⟩ := gd_e hm
  refine zh_iald o g4 g5 dX1_counter_15 ?_
  refine zh_reti o f dX1_counter_16 rfl (by omega) (by omega) ((so_e hm).trans hR9.symm)

def j_X1_isMarked (h : zH) (p : Nat) (a1 : Int32) : Option (zH × Int32) :=
  bd (j_X1_isBetween h a1 (0 : Int32) (15 : Int32)) fun y1 =>
  bd (j_X1_checkArgument y1.1 y1.2) fun y2 =>
  gd (kd y2 p 1) <|
  gd (kd y2 (hR y2 1 22 p) 11) <|
  bd (j_J3_get y2 (hR y2 1 22 p) a1) fun y5 =>
  gd (b01 y5.2) <|
  some (y5.1, y5.2)

set_option maxHeartbeats 40000000 in
theorem J_X1_isMarked (G : zG) (h : zH) (p : Nat) (a1 : Int32) (V : Int32) (h9 : zH) (z_ad : ("java/util/BitSet", "$assertionsDisabled", "Z", .int 1) ∈ zGz G) (hm : j_X1_isMarked h p a1 = some (h9, V)) : zJi G yX1_isMarked cX1_isMarked 2 (some .boolean) 2 0 0 [zrf p, .int a1] h V h9 := by
  refine zCo.st [some (zrf p), some (.int a1)] rfl rfl (by simp only [zarg_r, zarg_i, zarg_l, zarg_0]; rfl) (fun X o f0 hin hw0 => ?_)
  have f := f0.e
  have hin : (Xt X).name = "isMarked" := hin
  refine (?_ : zQ (EH h) G X 0 0 0 [some (zrf p), some (.int a1)] []) h rfl hw0
  clear hw0
  generalize hR9 : ((h9, V) : (zH × Int32)) = R at hm
  unfold j_X1_isMarked at hm
  refine zQ.s (fun h => zs_iload_n (i := 1) o dX1_isMarked_0 rfl rfl) ?_
  refine zQ.s (fun h => zs_iconst (v := 0) o dX1_isMarked_1 (by decide)) ?_
  refine zQ.s (fun h => zs_bipush (v := 15) o dX1_isMarked_2 (by decide)) ?_
  obtain ⟨y1, c_y1, hm⟩ := bd_e hm
  refine zh_Si o ml_X1_3 (J_X1_isBetween G _ _ _ _ _ _  c_y1) dX1_isMarked_4 rfl rfl rfl rfl (by omega) (by omega) ?_
  obtain ⟨y2, c_y2, hm⟩ := bd_e hm
  refine zh_Sv o ml_X1_578 (J_X1_checkArgument G _ _ _  c_y2) dX1_isMarked_7 rfl rfl rfl rfl (by omega) (by omega) ?_
  refine zQ.s (fun h => zs_aload_n (i := 0) o dX1_isMarked_10 rfl rfl) ?_
  obtain ⟨g3, hm⟩ := gd_e hm
  refine zh_getR o g3 fl_X1_95_1 rfl dX1_isMarked_11 ?_
  refine zQ.s (fun h => zs_iload_n (i := 1) o dX1_isMarked_14 rfl rfl) ?_
  obtain ⟨g4, hm⟩ := gd_e hm
  obtain ⟨y5, c_y5, hm⟩ := bd_e hm
  refine zh_Vi o g4 ml_X1_359 (J_J3_get G _ _ _ _ _ z_ad c_y5) dX1_isMarked_15 rfl rfl rfl rfl (by omega) (by omega) ?_
  obtain ⟨g6, hm⟩ := gd_e hm
  refine zh_reti o f dX1_isMarked_18 (b01_e g6).1 (by omega) (by omega) ((so_e hm).trans hR9.symm)

def j_X1_lineAt (h : zH) (p : Nat) (a1 : Int32) : Option (zH × Int32) :=
  bd (j_X1_isBetween h a1 (0 : Int32) (3 : Int32)) fun y1 =>
  bd (j_X1_checkArgument y1.1 y1.2) fun y2 =>
  gd (kd y2 p 1) <|
  gd (kd y2 (hR y2 1 24 p) 201) <|
  gd (inb a1 (zN y2 (hR y2 1 24 p))) <|
  some (y2, hI y2 201 (ix a1) (hR y2 1 24 p))

set_option maxHeartbeats 40000000 in
theorem J_X1_lineAt (G : zG) (h : zH) (p : Nat) (a1 : Int32) (V : Int32) (h9 : zH) (hm : j_X1_lineAt h p a1 = some (h9, V)) : zJi G yX1_lineAt cX1_lineAt 2 (some .int) 1 0 0 [zrf p, .int a1] h V h9 := by
  refine zCo.st [some (zrf p), some (.int a1)] rfl rfl (by simp only [zarg_r, zarg_i, zarg_l, zarg_0]; rfl) (fun X o f0 hin hw0 => ?_)
  have f := f0.e
  have hin : (Xt X).name = "lineAt" := hin
  refine (?_ : zQ (EH h) G X 0 0 0 [some (zrf p), some (.int a1)] []) h rfl hw0
  clear hw0
  generalize hR9 : ((h9, V) : (zH × Int32)) = R at hm
  unfold j_X1_lineAt at hm
  refine zQ.s (fun h => zs_iload_n (i := 1) o dX1_lineAt_0 rfl rfl) ?_
  refine zQ.s (fun h => zs_iconst (v := 0) o dX1_lineAt_1 (by decide)) ?_
  refine zQ.s (fun h => zs_iconst (v := 3) o dX1_lineAt_2 (by decide)) ?_
  obtain ⟨y1, c_y1, hm⟩ := bd_e hm
  refine zh_Si o ml_X1_3 (J_X1_isBetween G _ _ _ _ _ _  c_y1) dX1_lineAt_3 rfl rfl rfl rfl (by omega) (by omega) ?_
  obtain ⟨y2, c_y2, hm⟩ := bd_e hm
  refine zh_Sv o ml_X1_578 (J_X1_checkArgument G _ _ _  c_y2) dX1_lineAt_6 rfl rfl rfl rfl (by omega) (by omega) ?_
  refine zQ.s (fun h => zs_aload_n (i := 0) o dX1_lineAt_9 rfl rfl) ?_
  obtain ⟨g3, hm⟩ := gd_e hm
  refine zh_getR o g3 fl_X1_101_1 rfl dX1_lineAt_10 ?_
  refine zQ.s (fun h => zs_iload_n (i := 1) o dX1_lineAt_13 rfl rfl) ?_
  obtain ⟨g4, hm⟩ := gd_e hm
  obtain ⟨g5, hm⟩ := gd_e hm
  refine zh_iald o g4 g5 dX1_lineAt_14 ?_
  refine zh_reti o f dX1_lineAt_15 rfl (by omega) (by omega) ((so_e hm).trans hR9.symm)

def j_X1_asked (h : zH) (p : Nat) : Option (zH × Int32) :=
  gd (kd h p 1) <|
  gd (kd h (hR h 1 25 p) 13) <|
  bd (j_J6_size h (hR h 1 25 p)) fun y3 =>
  some (y3.1, y3.2)

set_option maxHeartbeats 40000000 in
theorem J_X1_asked (G : zG) (h : zH) (p : Nat) (V : Int32) (h9 : zH) (hm : j_X1_asked h p = some (h9, V)) : zJi G yX1_asked cX1_asked 1 (some .int) 1 0 0 [zrf p] h V h9 := by
  refine zCo.st [some (zrf p)] rfl rfl (by simp only [zarg_r, zarg_i, zarg_l, zarg_0]; rfl) (fun X o f0 hin hw0 => ?_)
  have f := f0.e
  have hin : (Xt X).name = "asked" := hin
  refine (?_ : zQ (EH h) G X 0 0 0 [some (zrf p)] []) h rfl hw0
  clear hw0
  generalize hR9 : ((h9, V) : (zH × Int32)) = R at hm
  unfold j_X1_asked at hm
  refine zQ.s (fun h => zs_aload_n (i := 0) o dX1_asked_0 rfl rfl) ?_
  obtain ⟨g1, hm⟩ := gd_e hm
  refine zh_getR o g1 fl_X1_104_1 rfl dX1_asked_1 ?_
  obtain ⟨g2, hm⟩ := gd_e hm
  obtain ⟨y3, c_y3, hm⟩ := bd_e hm
  refine zh_Vi o g2 ml_X1_496 (J_J6_size G _ _ _ _  c_y3) dX1_asked_4 rfl rfl rfl rfl (by omega) (by omega) ?_
  refine zh_reti o f dX1_asked_7 rfl (by omega) (by omega) ((so_e hm).trans hR9.symm)

def j_X1_lost_j16 (h : zH) (sp : Nat) (x0 : Nat) (x2 : Int32) (s0 : Int32) : Option (zH × Int32) :=
  bd (j_X1_checkArgument h s0) fun y1 =>
  gd (kd y1 x0 1) <|
  gd (kd y1 (hR y1 1 31 x0) 201) <|
  gd (inb x2 (zN y1 (hR y1 1 31 x0))) <|
  some (y1, hI y1 201 (ix x2) (hR y1 1 31 x0))
def j_X1_lost (h : zH) (p : Nat) (a1 : Int32) (sp : Nat) : Option (zH × Int32) :=
  gd (kd h sp 20) <|
  bd (j_J7_indexOf h sp a1) fun y2 =>
  if y2.2 < (0 : Int32) then
    j_X1_lost_j16 y2.1 sp p y2.2 (0 : Int32)
  else
    j_X1_lost_j16 y2.1 sp p y2.2 (1 : Int32)

set_option maxHeartbeats 40000000 in
theorem J_X1_lost (G : zG) (h : zH) (p : Nat) (a1 : Int32) (sp : Nat) (V : Int32) (h9 : zH) (z_cs : ("java/lang/String", "COMPACT_STRINGS", "Z", .int 1) ∈ zGz G) (z_sp : sp = zGs G + 1) (hm : j_X1_lost h p a1 sp = some (h9, V)) : zJi G yX1_lost cX1_lost 3 (some .int) 4 0 0 [zrf p, .int a1] h V h9 := by
  refine zCo.st [some (zrf p), some (.int a1), none] rfl rfl (by simp only [zarg_r, zarg_i, zarg_l, zarg_0]; rfl) (fun X o f0 hin hw0 => ?_)
  have f := f0.e
  have hin : (Xt X).name = "lost" := hin
  refine (?_ : zQ (EH h) G X 0 0 0 [some (zrf p), some (.int a1), none] []) h rfl hw0
  clear hw0
  generalize hR9 : ((h9, V) : (zH × Int32)) = R at hm
  have hj16 : ∀ (h : zH) (x0 : Nat) (x2 : Int32) (s0 : Int32) (cl sl : Nat), cl + (0) ≤ 0 → sl + (0) ≤ 0 → j_X1_lost_j16 h sp x0 x2 s0 = some R → zQ (EH h) G X cl sl 16 [some (zrf x0), none, some (.int x2)] [.int s0] := by
    intro h x0 x2 s0 cl sl hc hs hm
    unfold j_X1_lost_j16 at hm
    obtain ⟨y1, c_y1, hm⟩ := bd_e hm
    refine zh_Sv o ml_X1_578 (J_X1_checkArgument G _ _ _  c_y1) dX1_lost_16 rfl rfl rfl rfl (by omega) (by omega) ?_
    refine zQ.s (fun h => zs_aload_n (i := 0) o dX1_lost_19 rfl rfl) ?_
    obtain ⟨g2, hm⟩ := gd_e hm
    refine zh_getR o g2 fl_X1_118_1 rfl dX1_lost_20 ?_
    refine zQ.s (fun h => zs_iload_n (i := 2) o dX1_lost_23 rfl rfl) ?_
    obtain ⟨g3, hm⟩ := gd_e hm
    obtain ⟨g4, hm⟩ := gd_e hm
    refine zh_iald o g3 g4 dX1_lost_24 ?_
    refine zh_reti o f dX1_lost_25 rfl (by omega) (by omega) ((so_e hm).trans hR9.symm)
  unfold j_X1_lost at hm
  refine zh_ldcS o z_sp dX1_lost_0 ?_
  refine zQ.s (fun h => zs_iload_n (i := 1) o dX1_lost_2 rfl rfl) ?_
  obtain ⟨g1, hm⟩ := gd_e hm
  obtain ⟨y2, c_y2, hm⟩ := bd_e hm
  refine zh_Vi o g1 ml_X1_352 (J_J7_indexOf G _ _ _ _ _ z_cs c_y2) dX1_lost_3 rfl rfl rfl rfl (by omega) (by omega) ?_
  refine zQ.s (fun h => zs_istore_n (i := 2) o dX1_lost_6 rfl (by decide) (Or.inr rfl) (by simp only [List.set_cons_succ, List.set_cons_zero]; rfl)) ?_
  refine zQ.s (fun h => zs_iload_n (i := 2) o dX1_lost_7 rfl rfl) ?_
  refine zQ.b (fun h => zs_if_lt (tgt := 15) o dX1_lost_8 (by decide)) (fun c => ?_) (fun c => ?_)
  · have hm := if_e1 hm c
    refine zQ.s (fun h => zs_iconst (v := 0) o dX1_lost_15 (by decide)) ?_
    refine zQ.fg (zl_s (zl_n (zl_s zl_0))) ?_
    exact hj16 _ _ _ _ _ _ (by omega) (by omega) hm
  · have hm := if_e2 hm c
    refine zQ.s (fun h => zs_iconst (v := 1) o dX1_lost_11 (by decide)) ?_
    refine zQ.s (fun h => zs_goto (tgt := 16) o dX1_lost_12 (by decide)) ?_
    refine zQ.fg (zl_s (zl_n (zl_s zl_0))) ?_
    exact hj16 _ _ _ _ _ _ (by omega) (by omega) hm

def j_X1_wrong (h : zH) (p : Nat) : Option (zH × Int32) :=
  gd (kd h p 1) <|
  some (h, hI h 1 32 p)

set_option maxHeartbeats 40000000 in
theorem J_X1_wrong (G : zG) (h : zH) (p : Nat) (V : Int32) (h9 : zH) (hm : j_X1_wrong h p = some (h9, V)) : zJi G yX1_wrong cX1_wrong 1 (some .int) 0 0 0 [zrf p] h V h9 := by
  refine zCo.st [some (zrf p)] rfl rfl (by simp only [zarg_r, zarg_i, zarg_l, zarg_0]; rfl) (fun X o f0 hin hw0 => ?_)
  have f := f0.e
  have hin : (Xt X).name = "wrong" := hin
  refine (?_ : zQ (EH h) G X 0 0 0 [some (zrf p)] []) h rfl hw0
  clear hw0
  generalize hR9 : ((h9, V) : (zH × Int32)) = R at hm
  unfold j_X1_wrong at hm
  refine zQ.s (fun h => zs_aload_n (i := 0) o dX1_wrong_0 rfl rfl) ?_
  obtain ⟨g1, hm⟩ := gd_e hm
  refine zh_getI o g1 fl_X1_322_1 rfl dX1_wrong_1 ?_
  refine zh_reti o f dX1_wrong_4 rfl (by omega) (by omega) ((so_e hm).trans hR9.symm)

def j_X1_early (h : zH) (p : Nat) : Option (zH × Int32) :=
  gd (kd h p 1) <|
  some (h, hI h 1 33 p)

set_option maxHeartbeats 40000000 in
theorem J_X1_early (G : zG) (h : zH) (p : Nat) (V : Int32) (h9 : zH) (hm : j_X1_early h p = some (h9, V)) : zJi G yX1_early cX1_early 1 (some .int) 0 0 0 [zrf p] h V h9 := by
  refine zCo.st [some (zrf p)] rfl rfl (by simp only [zarg_r, zarg_i, zarg_l, zarg_0]; rfl) (fun X o f0 hin hw0 => ?_)
  have f := f0.e
  have hin : (Xt X).name = "early" := hin
  refine (?_ : zQ (EH h) G X 0 0 0 [some (zrf p)] []) h rfl hw0
  clear hw0
  generalize hR9 : ((h9, V) : (zH × Int32)) = R at hm
  unfold j_X1_early at hm
  refine zQ.s (fun h => zs_aload_n (i := 0) o dX1_early_0 rfl rfl) ?_
  obtain ⟨g1, hm⟩ := gd_e hm
  refine zh_getI o g1 fl_X1_281_1 rfl dX1_early_1 ?_
  refine zh_reti o f dX1_early_4 rfl (by omega) (by omega) ((so_e hm).trans hR9.symm)

def j_X1_thrownAway (h : zH) (p : Nat) : Option (zH × Int32) :=
  gd (kd h p 1) <|
  some (h, hI h 1 34 p)

set_option maxHeartbeats 40000000 in
theorem J_X1_thrownAway (G : zG) (h : zH) (p : Nat) (V : Int32) (h9 : zH) (hm : j_X1_thrownAway h p = some (h9, V)) : zJi G yX1_thrownAway cX1_thrownAway 1 (some .int) 0 0 0 [zrf p] h V h9 := by
  refine zCo.st [some (zrf p)] rfl rfl (by simp only [zarg_r, zarg_i, zarg_l, zarg_0]; rfl) (fun X o f0 hin hw0 => ?_)
  have f := f0.e
  have hin : (Xt X).name = "thrownAway" := hin
  refine (?_ : zQ (EH h) G X 0 0 0 [some (zrf p)] []) h rfl hw0
  clear hw0
  generalize hR9 : ((h9, V) : (zH × Int32)) = R at hm
  unfold j_X1_thrownAway at hm
  refine zQ.s (fun h => zs_aload_n (i := 0) o dX1_thrownAway_0 rfl rfl) ?_
  obtain ⟨g1, hm⟩ := gd_e hm
  refine zh_getI o g1 fl_X1_337_1 rfl dX1_thrownAway_1 ?_
  refine zh_reti o f dX1_thrownAway_4 rfl (by omega) (by omega) ((so_e hm).trans hR9.symm)

def j_X1_taken (h : zH) (p : Nat) : Option (zH × Int32) :=
  gd (kd h p 1) <|
  some (h, hI h 1 35 p)

set_option maxHeartbeats 40000000 in
theorem J_X1_taken (G : zG) (h : zH) (p : Nat) (V : Int32) (h9 : zH) (hm : j_X1_taken h p = some (h9, V)) : zJi G yX1_taken cX1_taken 1 (some .int) 0 0 0 [zrf p] h V h9 := by
  refine zCo.st [some (zrf p)] rfl rfl (by simp only [zarg_r, zarg_i, zarg_l, zarg_0]; rfl) (fun X o f0 hin hw0 => ?_)
  have f := f0.e
  have hin : (Xt X).name = "taken" := hin
  refine (?_ : zQ (EH h) G X 0 0 0 [some (zrf p)] []) h rfl hw0
  clear hw0
  generalize hR9 : ((h9, V) : (zH × Int32)) = R at hm
  unfold j_X1_taken at hm
  refine zQ.s (fun h => zs_aload_n (i := 0) o dX1_taken_0 rfl rfl) ?_
  obtain ⟨g1, hm⟩ := gd_e hm
  refine zh_getI o g1 fl_X1_486_1 rfl dX1_taken_1 ?_
  refine zh_reti o f dX1_taken_4 rfl (by omega) (by omega) ((so_e hm).trans hR9.symm)

def j_X1_hits (h : zH) (p : Nat) : Option (zH × Int64) :=
  gd (kd h p 1) <|
  some (h, hL h 1 36 p)

set_option maxHeartbeats 40000000 in
theorem J_X1_hits (G : zG) (h : zH) (p : Nat) (V : Int64) (h9 : zH) (hm : j_X1_hits h p = some (h9, V)) : zJl G yX1_hits cX1_hits 1 (some .long) 0 0 0 [zrf p] h V h9 := by
  refine zCo.st [some (zrf p)] rfl rfl (by simp only [zarg_r, zarg_i, zarg_l, zarg_0]; rfl) (fun X o f0 hin hw0 => ?_)
  have f := f0.e
  have hin : (Xt X).name = "hits" := hin
  refine (?_ : zQ (EH h) G X 0 0 0 [some (zrf p)] []) h rfl hw0
  clear hw0
  generalize hR9 : ((h9, V) : (zH × Int64)) = R at hm
  unfold j_X1_hits at hm
  refine zQ.s (fun h => zs_aload_n (i := 0) o dX1_hits_0 rfl rfl) ?_
  obtain ⟨g1, hm⟩ := gd_e hm
  refine zh_getL o g1 fl_X1_489_1 rfl dX1_hits_1 ?_
  refine zh_retl o f dX1_hits_4 (by omega) (by omega) ((so_e hm).trans hR9.symm)

def j_X1_share_j12 (h : zH) (x0 : Nat) (s0 : Int32) : Option (zH × UInt32) :=
  bd (j_X1_checkElement h s0) fun y1 =>
  gd (kd y1 x0 1) <|
  gd (kd y1 (hR y1 1 30 x0) 10) <|
  bd (j_J2_size y1 (hR y1 1 30 x0)) fun y4 =>
  gd (kd y4.1 x0 1) <|
  gd (fdg (FP.i2f y4.2) (FP.i2f (hI y4.1 1 26 x0))) <|
  some (y4.1, FP.fdiv (FP.i2f y4.2) (FP.i2f (hI y4.1 1 26 x0)))
def j_X1_share (h : zH) (p : Nat) : Option (zH × UInt32) :=
  gd (kd h p 1) <|
  if (hI h 1 26 p) ≤ (0 : Int32) then
    j_X1_share_j12 h p (0 : Int32)
  else
    j_X1_share_j12 h p (1 : Int32)

set_option maxHeartbeats 40000000 in
theorem J_X1_share (G : zG) (h : zH) (p : Nat) (V : UInt32) (h9 : zH) (hm : j_X1_share h p = some (h9, V)) : zJf G yX1_share cX1_share 1 (some .float) 1 0 0 [zrf p] h V h9 := by
  refine zCo.st [some (zrf p)] rfl rfl (by simp only [zarg_r, zarg_i, zarg_l, zarg_0]; rfl) (fun X o f0 hin hw0 => ?_)
  have f := f0.e
  have hin : (Xt X).name = "share" := hin
  refine (?_ : zQ (EH h) G X 0 0 0 [some (zrf p)] []) h rfl hw0
  clear hw0
  generalize hR9 : ((h9, V) : (zH × UInt32)) = R at hm
  have hj12 : ∀ (h : zH) (x0 : Nat) (s0 : Int32) (cl sl : Nat), cl + (0) ≤ 0 → sl + (0) ≤ 0 → j_X1_share_j12 h x0 s0 = some R → zQ (EH h) G X cl sl 12 [some (zrf x0)] [.int s0] := by
    intro h x0 s0 cl sl hc hs hm
    unfold j_X1_share_j12 at hm
    obtain ⟨y1, c_y1, hm⟩ := bd_e hm
    refine zh_Sv o ml_X1_635 (J_X1_checkElement G _ _ _  c_y1) dX1_share_12 rfl rfl rfl rfl (by omega) (by omega) ?_
    refine zQ.s (fun h => zs_aload_n (i := 0) o dX1_share_15 rfl rfl) ?_
    obtain ⟨g2, hm⟩ := gd_e hm
    refine zh_getR o g2 fl_X1_107_1 rfl dX1_share_16 ?_
    obtain ⟨g3, hm⟩ := gd_e hm
    obtain ⟨y4, c_y4, hm⟩ := bd_e hm
    refine zh_Fi o g3 ml_X1_543_10 (J_J2_size G _ _ _ _  c_y4) dX1_share_19 rfl rfl rfl rfl (by omega) (by omega) ?_
    refine zQ.s (fun h => zs_i2f o dX1_share_24) ?_
    refine zQ.s (fun h => zs_aload_n (i := 0) o dX1_share_25 rfl rfl) ?_
    obtain ⟨g5, hm⟩ := gd_e hm
    refine zh_getI o g5 fl_X1_153_1 rfl dX1_share_26 ?_
    refine zQ.s (fun h => zs_i2f o dX1_share_29) ?_
    obtain ⟨g6, hm⟩ := gd_e hm
    refine zQ.s (fun h => zs_fdiv o dX1_share_30 (fdg_e g6)) ?_
    refine zh_retf o f dX1_share_31 (by omega) (by omega) ((so_e hm).trans hR9.symm)
  unfold j_X1_share at hm
  refine zQ.s (fun h => zs_aload_n (i := 0) o dX1_share_0 rfl rfl) ?_
  obtain ⟨g1, hm⟩ := gd_e hm
  refine zh_getI o g1 fl_X1_153_1 rfl dX1_share_1 ?_
  refine zQ.b (fun h => zs_if_le (tgt := 11) o dX1_share_4 (by decide)) (fun c => ?_) (fun c => ?_)
  · have hm := if_e1 hm c
    refine zQ.s (fun h => zs_iconst (v := 0) o dX1_share_11 (by decide)) ?_
    exact hj12 _ _ _ _ _ (by omega) (by omega) hm
  · have hm := if_e2 hm c
    refine zQ.s (fun h => zs_iconst (v := 1) o dX1_share_7 (by decide)) ?_
    refine zQ.s (fun h => zs_goto (tgt := 12) o dX1_share_8 (by decide)) ?_
    exact hj12 _ _ _ _ _ (by omega) (by omega) hm

def j_X1_isSame_j72 (k17 : zH → Nat → Nat → Int32 → Nat → Option (zH × Int32)) (h : zH) (x0 : Nat) (x1 : Nat) (x3 : Nat) (s0 : Int32) : Option (zH × Int32) :=
  k17 h x0 x1 s0 x3
def j_X1_isSame_j71 (k17 : zH → Nat → Nat → Int32 → Nat → Option (zH × Int32)) (h : zH) (x0 : Nat) (x1 : Nat) (x3 : Nat) : Option (zH × Int32) :=
  j_X1_isSame_j72 k17 h x0 x1 x3 (0 : Int32)
def j_X1_isSame_j113 (k78 : zH → Nat → Nat → Int32 → Int32 → Option (zH × Int32)) (h : zH) (x0 : Nat) (x1 : Nat) (x3 : Int32) (s0 : Int32) : Option (zH × Int32) :=
  k78 h x0 x1 s0 (x3 + (1 : Int32))
def j_X1_isSame_j112 (k78 : zH → Nat → Nat → Int32 → Int32 → Option (zH × Int32)) (h : zH) (x0 : Nat) (x1 : Nat) (x3 : Int32) : Option (zH × Int32) :=
  j_X1_isSame_j113 k78 h x0 x1 x3 (0 : Int32)
def j_X1_isSame_j152 (k122 : zH → Nat → Nat → Int32 → Int32 → Option (zH × Int32)) (h : zH) (x0 : Nat) (x1 : Nat) (x3 : Int32) (s0 : Int32) : Option (zH × Int32) :=
  k122 h x0 x1 s0 (x3 + (1 : Int32))
def j_X1_isSame_j151 (k122 : zH → Nat → Nat → Int32 → Int32 → Option (zH × Int32)) (h : zH) (x0 : Nat) (x1 : Nat) (x3 : Int32) : Option (zH × Int32) :=
  j_X1_isSame_j152 k122 h x0 x1 x3 (0 : Int32)
def j_X1_isSame_j182 (h : zH) (s0 : Int32) : Option (zH × Int32) :=
  gd (b01 s0) <|
  some (h, s0)
def j_X1_isSame_j181 (h : zH) : Option (zH × Int32) :=
  j_X1_isSame_j182 h (0 : Int32)
def j_X1_isSame_b122 (k122 : zH → Nat → Nat → Int32 → Int32 → Option (zH × Int32)) (h : zH) (x0 : Nat) (x1 : Nat) (x2 : Int32) (x3 : Int32) : Option (zH × Int32) :=
  if (64 : Int32) ≤ x3 then
    if x2 = (0 : Int32) then
      j_X1_isSame_j181 h
    else
      gd (kd h x1 9) <|
      gd (kd h x0 1) <|
      gd (kd h (hR h 9 3 x1) 2) <|
      bd (j_X2_isSame h (hR h 9 3 x1) (hR h 1 4 x0)) fun y4 =>
      if y4.2 = (0 : Int32) then
        j_X1_isSame_j181 y4.1
      else
        j_X1_isSame_j182 y4.1 (1 : Int32)
  else
    if x2 = (0 : Int32) then
      j_X1_isSame_j151 k122 h x0 x1 x3
    else
      gd (kd h x1 9) <|
      gd (kd h (hR h 9 2 x1) 201) <|
      gd (inb x3 (zN h (hR h 9 2 x1))) <|
      gd (kd h x0 1) <|
      gd (kd h (hR h 1 3 x0) 201) <|
      gd (inb x3 (zN h (hR h 1 3 x0))) <|
      if (hI h 201 (ix x3) (hR h 9 2 x1)) = (hI h 201 (ix x3) (hR h 1 3 x0)) then
        j_X1_isSame_j152 k122 h x0 x1 x3 (1 : Int32)
      else
        j_X1_isSame_j151 k122 h x0 x1 x3
def j_X1_isSame_l122 : Nat → zH → Nat → Nat → Int32 → Int32 → Option (zH × Int32)
  | 0 => fun _ _ _ _ _ => none
  | n + 1 => j_X1_isSame_b122 (j_X1_isSame_l122 n)
def j_X1_isSame_b78 (k78 : zH → Nat → Nat → Int32 → Int32 → Option (zH × Int32)) (h : zH) (x0 : Nat) (x1 : Nat) (x2 : Int32) (x3 : Int32) : Option (zH × Int32) :=
  if (8 : Int32) ≤ x3 then
    j_X1_isSame_l122 2100 h x0 x1 x2 (0 : Int32)
  else
    if x2 = (0 : Int32) then
      j_X1_isSame_j112 k78 h x0 x1 x3
    else
      gd (kd h x1 9) <|
      gd (kd h (hR h 9 1 x1) 201) <|
      gd (inb x3 (zN h (hR h 9 1 x1))) <|
      gd (kd h x0 1) <|
      gd (kd h x0 1) <|
      gd (kd h (hR h 1 12 x0) 201) <|
      gd (inb x3 (zN h (hR h 1 12 x0))) <|
      gd (kd h (hR h 1 9 x0) 201) <|
      gd (inb (hI h 201 (ix x3) (hR h 1 12 x0)) (zN h (hR h 1 9 x0))) <|
      if (hI h 201 (ix x3) (hR h 9 1 x1)) = (hI h 201 (ix (hI h 201 (ix x3) (hR h 1 12 x0))) (hR h 1 9 x0)) then
        j_X1_isSame_j113 k78 h x0 x1 x3 (1 : Int32)
      else
        j_X1_isSame_j112 k78 h x0 x1 x3
def j_X1_isSame_l78 : Nat → zH → Nat → Nat → Int32 → Int32 → Option (zH × Int32)
  | 0 => fun _ _ _ _ _ => none
  | n + 1 => j_X1_isSame_b78 (j_X1_isSame_l78 n)
def j_X1_isSame_b17 (k17 : zH → Nat → Nat → Int32 → Nat → Option (zH × Int32)) (h : zH) (x0 : Nat) (x1 : Nat) (x2 : Int32) (x3 : Nat) : Option (zH × Int32) :=
  gd (kd h x3 15) <|
  bd (j_J26_hasNext h x3) fun y2 =>
  if y2.2 = (0 : Int32) then
    j_X1_isSame_l78 2100 y2.1 x0 x1 x2 (0 : Int32)
  else
    gd (kd y2.1 x3 15) <|
    bd (j_J26_next y2.1 x3) fun y4 =>
    gd (kd y4.1 y4.2 5) <|
    if x2 = (0 : Int32) then
      j_X1_isSame_j71 k17 y4.1 x0 x1 x3
    else
      gd (kd y4.1 x1 9) <|
      gd (kd y4.1 y4.2 5) <|
      if (hI y4.1 9 4 x1) = (hI y4.1 5 1 y4.2) then
        bd (j_X1_follow y4.1 x1 y4.2) fun y8 =>
        gd (kd y8.1 y4.2 5) <|
        if y8.2 = (hI y8.1 5 0 y4.2) then
          j_X1_isSame_j72 k17 y8.1 x0 x1 x3 (1 : Int32)
        else
          j_X1_isSame_j71 k17 y8.1 x0 x1 x3
      else
        j_X1_isSame_j71 k17 y4.1 x0 x1 x3
def j_X1_isSame_l17 : Nat → zH → Nat → Nat → Int32 → Nat → Option (zH × Int32)
  | 0 => fun _ _ _ _ _ => none
  | n + 1 => j_X1_isSame_b17 (j_X1_isSame_l17 n)
def j_X1_isSame (h : zH) (p : Nat) : Option (zH × Int32) :=
  gd (kd h p 1) <|
  bd (j_X1_plain h p) fun y2 =>
  gd (kd y2.1 p 1) <|
  gd (kd y2.1 (hR y2.1 1 30 p) 10) <|
  bd (j_J2_iterator y2.1 (hR y2.1 1 30 p)) fun y5 =>
  j_X1_isSame_l17 2100 y5.1 p y2.2 (1 : Int32) y5.2

set_option maxHeartbeats 40000000 in
theorem J_X1_isSame (G : zG) (h : zH) (p : Nat) (V : Int32) (h9 : zH) (hm : j_X1_isSame h p = some (h9, V)) : zJi G yX1_isSame cX1_isSame 5 (some .boolean) 5 5 86 [zrf p] h V h9 := by
  refine zCo.st [some (zrf p), none, none, none, none] rfl rfl (by simp only [zarg_r, zarg_i, zarg_l, zarg_0]; rfl) (fun X o f0 hin hw0 => ?_)
  have f := f0.e
  have hin : (Xt X).name = "isSame" := hin
  refine (?_ : zQ (EH h) G X 0 0 0 [some (zrf p), none, none, none, none] []) h rfl hw0
  clear hw0
  generalize hR9 : ((h9, V) : (zH × Int32)) = R at hm
  have hj182 : ∀ (h : zH) (s0 : Int32) (cl sl : Nat), cl + (0) ≤ 5 → sl + (0) ≤ 86 → j_X1_isSame_j182 h s0 = some R → zQ (EH h) G X cl sl 182 [none, none, none, none, none] [.int s0] := by
    intro h s0 cl sl hc hs hm
    unfold j_X1_isSame_j182 at hm
    obtain ⟨g1, hm⟩ := gd_e hm
    refine zh_reti o f dX1_isSame_182 (b01_e g1).1 (by omega) (by omega) ((so_e hm).trans hR9.symm)
  have hj181 : ∀ (h : zH) (cl sl : Nat), cl + (0) ≤ 5 → sl + (0) ≤ 86 → j_X1_isSame_j181 h = some R → zQ (EH h) G X cl sl 181 [none, none, none, none, none] [] := by
    intro h cl sl hc hs hm
    unfold j_X1_isSame_j181 at hm
    refine zQ.s (fun h => zs_iconst (v := 0) o dX1_isSame_181 (by decide)) ?_
    exact hj182 _ _ _ _ (by omega) (by omega) hm
  have hl122 : ∀ (n122 : Nat), n122 ≤ 2100 → ∀ (h : zH) (x0 : Nat) (x1 : Nat) (x2 : Int32) (x3 : Int32) (cl sl : Nat), cl + (0) ≤ 5 → sl + (0) ≤ 86 → j_X1_isSame_l122 n122 h x0 x1 x2 x3 = some R → zQ (EH h) G X cl sl 122 [some (zrf x0), some (zrf x1), some (.int x2), some (.int x3), none] [] := by
    intro n122
    induction n122 with
    | zero => intro _ h x0 x1 x2 x3 cl sl _ _ hm; exact no_e hm
    | succ n122 ih =>
      intro hf122
      have ih122 := ih (by omega)
      have hj152 : ∀ (h : zH) (x0 : Nat) (x1 : Nat) (x3 : Int32) (s0 : Int32) (cl sl : Nat), cl + (0) ≤ 5 → sl + (0) ≤ 86 → j_X1_isSame_j152 (j_X1_isSame_l122 n122) h x0 x1 x3 s0 = some R → zQ (EH h) G X cl sl 152 [some (zrf x0), some (zrf x1), none, some (.int x3), none] [.int s0] := by
        intro h x0 x1 x3 s0 cl sl hc hs hm
        unfold j_X1_isSame_j152 at hm
        refine zQ.s (fun h => zs_istore_n (i := 2) o dX1_isSame_152 rfl (by decide) (Or.inr (zc2_ref rfl)) (by simp only [List.set_cons_succ, List.set_cons_zero]; rfl)) ?_
        refine zQ.s (fun h => zs_iinc (i := 3) (v := x3 + (1 : Int32)) o dX1_isSame_153 rfl rfl (by decide) (Or.inr rfl) (by simp only [List.set_cons_succ, List.set_cons_zero]; rfl)) ?_
        refine zQ.s (fun h => zs_goto (tgt := 122) o dX1_isSame_156 (by decide)) ?_
        exact ih122 _ _ _ _ _ _ _ (by omega) (by omega) hm
      have hj151 : ∀ (h : zH) (x0 : Nat) (x1 : Nat) (x3 : Int32) (cl sl : Nat), cl + (0) ≤ 5 → sl + (0) ≤ 86 → j_X1_isSame_j151 (j_X1_isSame_l122 n122) h x0 x1 x3 = some R → zQ (EH h) G X cl sl 151 [some (zrf x0), some (zrf x1), none, some (.int x3), none] [] := by
        intro h x0 x1 x3 cl sl hc hs hm
        unfold j_X1_isSame_j151 at hm
        refine zQ.s (fun h => zs_iconst (v := 0) o dX1_isSame_151 (by decide)) ?_
        exact hj152 _ _ _ _ _ _ _ (by omega) (by omega) hm
      intro h x0 x1 x2 x3 cl sl hc hs hm
      have hm : j_X1_isSame_b122 (j_X1_isSame_l122 n122) h x0 x1 x2 x3 = some R := hm
      unfold j_X1_isSame_b122 at hm
      refine zQ.s (fun h => zs_iload_n (i := 3) o dX1_isSame_122 rfl rfl) ?_
      refine zQ.s (fun h => zs_bipush (v := 64) o dX1_isSame_123 (by decide)) ?_
      refine zQ.b (fun h => zs_icmp_ge (tgt := 159) o dX1_isSame_125 (by decide)) (fun c => ?_) (fun c => ?_)
      · have hm := if_e1 hm c
        refine zQ.s (fun h => zs_iload_n (i := 2) o dX1_isSame_159 rfl rfl) ?_
        refine zQ.b (fun h => zs_if_eq (tgt := 181) o dX1_isSame_160 (by decide)) (fun c => ?_) (fun c => ?_)
        · have hm := if_e1 hm c
          refine zQ.fg (zl_n (zl_n (zl_n (zl_n (zl_n zl_0))))) ?_
          exact hj181 _ _ _ (by omega) (by omega) hm
        · have hm := if_e2 hm c
          refine zQ.s (fun h => zs_aload_n (i := 1) o dX1_isSame_163 rfl rfl) ?_
          obtain ⟨g1, hm⟩ := gd_e hm
          refine zh_getR o g1 fl_X1_666_9 rfl dX1_isSame_164 ?_
          refine zQ.s (fun h => zs_aload_n (i := 0) o dX1_isSame_167 rfl rfl) ?_
          obtain ⟨g2, hm⟩ := gd_e hm
          refine zh_getR o g2 fl_X1_33_1 rfl dX1_isSame_168 ?_
          obtain ⟨g3, hm⟩ := gd_e hm
          obtain ⟨y4, c_y4, hm⟩ := bd_e hm
          refine zh_Vi o g3 ml_X1_667 (J_X2_isSame G _ _ _ _ _  c_y4) dX1_isSame_171 rfl rfl rfl rfl (by omega) (by omega) ?_
          refine zQ.b (fun h => zs_if_eq (tgt := 181) o dX1_isSame_174 (by decide)) (fun c => ?_) (fun c => ?_)
          · have hm := if_e1 hm c
            refine zQ.fg (zl_n (zl_n (zl_n (zl_n (zl_n zl_0))))) ?_
            exact hj181 _ _ _ (by omega) (by omega) hm
          · have hm := if_e2 hm c
            refine zQ.s (fun h => zs_iconst (v := 1) o dX1_isSame_177 (by decide)) ?_
            refine zQ.s (fun h => zs_goto (tgt := 182) o dX1_isSame_178 (by decide)) ?_
            refine zQ.fg (zl_n (zl_n (zl_n (zl_n (zl_n zl_0))))) ?_
            exact hj182 _ _ _ _ (by omega) (by omega) hm
      · have hm := if_e2 hm c
        refine zQ.s (fun h => zs_iload_n (i := 2) o dX1_isSame_128 rfl rfl) ?_
        refine zQ.b (fun h => zs_if_eq (tgt := 151) o dX1_isSame_129 (by decide)) (fun c => ?_) (fun c => ?_)
        · have hm := if_e1 hm c
          refine zQ.fg (zl_s (zl_s (zl_n (zl_s (zl_n zl_0))))) ?_
          exact hj151 _ _ _ _ _ _ (by omega) (by omega) hm
        · have hm := if_e2 hm c
          refine zQ.s (fun h => zs_aload_n (i := 1) o dX1_isSame_132 rfl rfl) ?_
          obtain ⟨g5, hm⟩ := gd_e hm
          refine zh_getR o g5 fl_X1_634_9 rfl dX1_isSame_133 ?_
          refine zQ.s (fun h => zs_iload_n (i := 3) o dX1_isSame_136 rfl rfl) ?_
          obtain ⟨g6, hm⟩ := gd_e hm
          obtain ⟨g7, hm⟩ := gd_e hm
          refine zh_iald o g6 g7 dX1_isSame_137 ?_
          refine zQ.s (fun h => zs_aload_n (i := 0) o dX1_isSame_138 rfl rfl) ?_
          obtain ⟨g8, hm⟩ := gd_e hm
          refine zh_getR o g8 fl_X1_27_1 rfl dX1_isSame_139 ?_
          refine zQ.s (fun h => zs_iload_n (i := 3) o dX1_isSame_142 rfl rfl) ?_
          obtain ⟨g9, hm⟩ := gd_e hm
          obtain ⟨g10, hm⟩ := gd_e hm
          refine zh_iald o g9 g10 dX1_isSame_143 ?_
          refine zQ.b (fun h => zs_icmp_ne (tgt := 151) o dX1_isSame_144 (by decide)) (fun c => ?_) (fun c => ?_)
          · have hm := if_e2 hm c
            refine zQ.fg (zl_s (zl_s (zl_n (zl_s (zl_n zl_0))))) ?_
            exact hj151 _ _ _ _ _ _ (by omega) (by omega) hm
          · have hm := if_e1 hm c
            refine zQ.s (fun h => zs_iconst (v := 1) o dX1_isSame_147 (by decide)) ?_
            refine zQ.s (fun h => zs_goto (tgt := 152) o dX1_isSame_148 (by decide)) ?_
            refine zQ.fg (zl_s (zl_s (zl_n (zl_s (zl_n zl_0))))) ?_
            exact hj152 _ _ _ _ _ _ _ (by omega) (by omega) hm
  have hl78 : ∀ (n78 : Nat), n78 ≤ 2100 → ∀ (h : zH) (x0 : Nat) (x1 : Nat) (x2 : Int32) (x3 : Int32) (cl sl : Nat), cl + (0) ≤ 5 → sl + (0) ≤ 86 → j_X1_isSame_l78 n78 h x0 x1 x2 x3 = some R → zQ (EH h) G X cl sl 78 [some (zrf x0), some (zrf x1), some (.int x2), some (.int x3), none] [] := by
    intro n78
    induction n78 with
    | zero => intro _ h x0 x1 x2 x3 cl sl _ _ hm; exact no_e hm
    | succ n78 ih =>
      intro hf78
      have ih78 := ih (by omega)
      have hj113 : ∀ (h : zH) (x0 : Nat) (x1 : Nat) (x3 : Int32) (s0 : Int32) (cl sl : Nat), cl + (0) ≤ 5 → sl + (0) ≤ 86 → j_X1_isSame_j113 (j_X1_isSame_l78 n78) h x0 x1 x3 s0 = some R → zQ (EH h) G X cl sl 113 [some (zrf x0), some (zrf x1), none, some (.int x3), none] [.int s0] := by
        intro h x0 x1 x3 s0 cl sl hc hs hm
        unfold j_X1_isSame_j113 at hm
        refine zQ.s (fun h => zs_istore_n (i := 2) o dX1_isSame_113 rfl (by decide) (Or.inr (zc2_ref rfl)) (by simp only [List.set_cons_succ, List.set_cons_zero]; rfl)) ?_
        refine zQ.s (fun h => zs_iinc (i := 3) (v := x3 + (1 : Int32)) o dX1_isSame_114 rfl rfl (by decide) (Or.inr rfl) (by simp only [List.set_cons_succ, List.set_cons_zero]; rfl)) ?_
        refine zQ.s (fun h => zs_goto (tgt := 78) o dX1_isSame_117 (by decide)) ?_
        exact ih78 _ _ _ _ _ _ _ (by omega) (by omega) hm
      have hj112 : ∀ (h : zH) (x0 : Nat) (x1 : Nat) (x3 : Int32) (cl sl : Nat), cl + (0) ≤ 5 → sl + (0) ≤ 86 → j_X1_isSame_j112 (j_X1_isSame_l78 n78) h x0 x1 x3 = some R → zQ (EH h) G X cl sl 112 [some (zrf x0), some (zrf x1), none, some (.int x3), none] [] := by
        intro h x0 x1 x3 cl sl hc hs hm
        unfold j_X1_isSame_j112 at hm
        refine zQ.s (fun h => zs_iconst (v := 0) o dX1_isSame_112 (by decide)) ?_
        exact hj113 _ _ _ _ _ _ _ (by omega) (by omega) hm
      intro h x0 x1 x2 x3 cl sl hc hs hm
      have hm : j_X1_isSame_b78 (j_X1_isSame_l78 n78) h x0 x1 x2 x3 = some R := hm
      unfold j_X1_isSame_b78 at hm
      refine zQ.s (fun h => zs_iload_n (i := 3) o dX1_isSame_78 rfl rfl) ?_
      refine zQ.s (fun h => zs_bipush (v := 8) o dX1_isSame_79 (by decide)) ?_
      refine zQ.b (fun h => zs_icmp_ge (tgt := 120) o dX1_isSame_81 (by decide)) (fun c => ?_) (fun c => ?_)
      · have hm := if_e1 hm c
        refine zQ.s (fun h => zs_iconst (v := 0) o dX1_isSame_120 (by decide)) ?_
        refine zQ.s (fun h => zs_istore_n (i := 3) o dX1_isSame_121 rfl (by decide) (Or.inr rfl) (by simp only [List.set_cons_succ, List.set_cons_zero]; rfl)) ?_
        exact hl122 2100 (Nat.le_refl _) _ _ _ _ _ _ _ (by omega) (by omega) hm
      · have hm := if_e2 hm c
        refine zQ.s (fun h => zs_iload_n (i := 2) o dX1_isSame_84 rfl rfl) ?_
        refine zQ.b (fun h => zs_if_eq (tgt := 112) o dX1_isSame_85 (by decide)) (fun c => ?_) (fun c => ?_)
        · have hm := if_e1 hm c
          refine zQ.fg (zl_s (zl_s (zl_n (zl_s (zl_n zl_0))))) ?_
          exact hj112 _ _ _ _ _ _ (by omega) (by omega) hm
        · have hm := if_e2 hm c
          refine zQ.s (fun h => zs_aload_n (i := 1) o dX1_isSame_88 rfl rfl) ?_
          obtain ⟨g1, hm⟩ := gd_e hm
          refine zh_getR o g1 fl_X1_631_9 rfl dX1_isSame_89 ?_
          refine zQ.s (fun h => zs_iload_n (i := 3) o dX1_isSame_92 rfl rfl) ?_
          obtain ⟨g2, hm⟩ := gd_e hm
          obtain ⟨g3, hm⟩ := gd_e hm
          refine zh_iald o g2 g3 dX1_isSame_93 ?_
          refine zQ.s (fun h => zs_aload_n (i := 0) o dX1_isSame_94 rfl rfl) ?_
          obtain ⟨g4, hm⟩ := gd_e hm
          refine zh_getR o g4 fl_X1_50_1 rfl dX1_isSame_95 ?_
          refine zQ.s (fun h => zs_aload_n (i := 0) o dX1_isSame_98 rfl rfl) ?_
          obtain ⟨g5, hm⟩ := gd_e hm
          refine zh_getR o g5 fl_X1_63_1 rfl dX1_isSame_99 ?_
          refine zQ.s (fun h => zs_iload_n (i := 3) o dX1_isSame_102 rfl rfl) ?_
          obtain ⟨g6, hm⟩ := gd_e hm
          obtain ⟨g7, hm⟩ := gd_e hm
          refine zh_iald o g6 g7 dX1_isSame_103 ?_
          obtain ⟨g8, hm⟩ := gd_e hm
          obtain ⟨g9, hm⟩ := gd_e hm
          refine zh_iald o g8 g9 dX1_isSame_104 ?_
          refine zQ.b (fun h => zs_icmp_ne (tgt := 112) o dX1_isSame_105 (by decide)) (fun c => ?_) (fun c => ?_)
          · have hm := if_e2 hm c
            refine zQ.fg (zl_s (zl_s (zl_n (zl_s (zl_n zl_0))))) ?_
            exact hj112 _ _ _ _ _ _ (by omega) (by omega) hm
          · have hm := if_e1 hm c
            refine zQ.s (fun h => zs_iconst (v := 1) o dX1_isSame_108 (by decide)) ?_
            refine zQ.s (fun h => zs_goto (tgt := 113) o dX1_isSame_109 (by decide)) ?_
            refine zQ.fg (zl_s (zl_s (zl_n (zl_s (zl_n zl_0))))) ?_
            exact hj113 _ _ _ _ _ _ _ (by omega) (by omega) hm
  have hl17 : ∀ (n17 : Nat), n17 ≤ 2100 → ∀ (h : zH) (x0 : Nat) (x1 : Nat) (x2 : Int32) (x3 : Nat) (cl sl : Nat), cl + (0) ≤ 5 → sl + (0) ≤ 86 → j_X1_isSame_l17 n17 h x0 x1 x2 x3 = some R → zQ (EH h) G X cl sl 17 [some (zrf x0), some (zrf x1), some (.int x2), some (zrf x3), none] [] := by
    intro n17
    induction n17 with
    | zero => intro _ h x0 x1 x2 x3 cl sl _ _ hm; exact no_e hm
    | succ n17 ih =>
      intro hf17
      have ih17 := ih (by omega)
      have hj72 : ∀ (h : zH) (x0 : Nat) (x1 : Nat) (x3 : Nat) (s0 : Int32) (cl sl : Nat), cl + (0) ≤ 5 → sl + (0) ≤ 86 → j_X1_isSame_j72 (j_X1_isSame_l17 n17) h x0 x1 x3 s0 = some R → zQ (EH h) G X cl sl 72 [some (zrf x0), some (zrf x1), none, some (zrf x3), none] [.int s0] := by
        intro h x0 x1 x3 s0 cl sl hc hs hm
        unfold j_X1_isSame_j72 at hm
        refine zQ.s (fun h => zs_istore_n (i := 2) o dX1_isSame_72 rfl (by decide) (Or.inr (zc2_ref rfl)) (by simp only [List.set_cons_succ, List.set_cons_zero]; rfl)) ?_
        refine zQ.s (fun h => zs_goto (tgt := 17) o dX1_isSame_73 (by decide)) ?_
        exact ih17 _ _ _ _ _ _ _ (by omega) (by omega) hm
      have hj71 : ∀ (h : zH) (x0 : Nat) (x1 : Nat) (x3 : Nat) (cl sl : Nat), cl + (0) ≤ 5 → sl + (0) ≤ 86 → j_X1_isSame_j71 (j_X1_isSame_l17 n17) h x0 x1 x3 = some R → zQ (EH h) G X cl sl 71 [some (zrf x0), some (zrf x1), none, some (zrf x3), none] [] := by
        intro h x0 x1 x3 cl sl hc hs hm
        unfold j_X1_isSame_j71 at hm
        refine zQ.s (fun h => zs_iconst (v := 0) o dX1_isSame_71 (by decide)) ?_
        exact hj72 _ _ _ _ _ _ _ (by omega) (by omega) hm
      intro h x0 x1 x2 x3 cl sl hc hs hm
      have hm : j_X1_isSame_b17 (j_X1_isSame_l17 n17) h x0 x1 x2 x3 = some R := hm
      unfold j_X1_isSame_b17 at hm
      refine zQ.s (fun h => zs_aload_n (i := 3) o dX1_isSame_17 rfl rfl) ?_
      obtain ⟨g1, hm⟩ := gd_e hm
      obtain ⟨y2, c_y2, hm⟩ := bd_e hm
      refine zh_Fi o g1 ml_X1_164_15 (J_J26_hasNext G _ _ _ _  c_y2) dX1_isSame_18 rfl rfl rfl rfl (by omega) (by omega) ?_
      refine zQ.b (fun h => zs_if_eq (tgt := 76) o dX1_isSame_23 (by decide)) (fun c => ?_) (fun c => ?_)
      · have hm := if_e1 hm c
        refine zQ.s (fun h => zs_iconst (v := 0) o dX1_isSame_76 (by decide)) ?_
        refine zQ.s (fun h => zs_istore_n (i := 3) o dX1_isSame_77 rfl (by decide) (Or.inr rfl) (by simp only [List.set_cons_succ, List.set_cons_zero]; rfl)) ?_
        exact hl78 2100 (Nat.le_refl _) _ _ _ _ _ _ _ (by omega) (by omega) hm
      · have hm := if_e2 hm c
        refine zQ.s (fun h => zs_aload_n (i := 3) o dX1_isSame_26 rfl rfl) ?_
        obtain ⟨g3, hm⟩ := gd_e hm
        obtain ⟨y4, c_y4, hm⟩ := bd_e hm
        refine zh_Fr o g3 ml_X1_170_15 (J_J26_next G _ _ _ _  c_y4) dX1_isSame_27 rfl rfl rfl rfl (by omega) (by omega) ?_
        obtain ⟨g5, hm⟩ := gd_e hm
        refine zh_cast (c := 5) o q1325 (by decide) (by decide) g5 dX1_isSame_32 ?_
        refine zQ.s (fun h => zs_astore (i := 4) o dX1_isSame_35 (by decide) (Or.inr (zc2_ref rfl)) (by simp only [List.set_cons_succ, List.set_cons_zero]; rfl)) ?_
        refine zQ.s (fun h => zs_iload_n (i := 2) o dX1_isSame_37 rfl rfl) ?_
        refine zQ.b (fun h => zs_if_eq (tgt := 71) o dX1_isSame_38 (by decide)) (fun c => ?_) (fun c => ?_)
        · have hm := if_e1 hm c
          refine zQ.fg (zl_s (zl_s (zl_n (zl_s (zl_n zl_0))))) ?_
          exact hj71 _ _ _ _ _ _ (by omega) (by omega) hm
        · have hm := if_e2 hm c
          refine zQ.s (fun h => zs_aload_n (i := 1) o dX1_isSame_41 rfl rfl) ?_
          obtain ⟨g6, hm⟩ := gd_e hm
          refine zh_getI o g6 fl_X1_630_9 rfl dX1_isSame_42 ?_
          refine zQ.s (fun h => zs_aload (i := 4) o dX1_isSame_45 rfl) ?_
          obtain ⟨g7, hm⟩ := gd_e hm
          refine zh_getI o g7 fl_X1_603_5 rfl dX1_isSame_47 ?_
          refine zQ.b (fun h => zs_icmp_ne (tgt := 71) o dX1_isSame_50 (by decide)) (fun c => ?_) (fun c => ?_)
          · have hm := if_e2 hm c
            refine zQ.fg (zl_s (zl_s (zl_n (zl_s (zl_n zl_0))))) ?_
            exact hj71 _ _ _ _ _ _ (by omega) (by omega) hm
          · have hm := if_e1 hm c
            refine zQ.s (fun h => zs_aload_n (i := 1) o dX1_isSame_53 rfl rfl) ?_
            refine zQ.s (fun h => zs_aload (i := 4) o dX1_isSame_54 rfl) ?_
            obtain ⟨y8, c_y8, hm⟩ := bd_e hm
            refine zh_Si o ml_X1_622 (J_X1_follow G _ _ _ _ _  c_y8) dX1_isSame_56 rfl rfl rfl rfl (by omega) (by omega) ?_
            refine zQ.s (fun h => zs_aload (i := 4) o dX1_isSame_59 rfl) ?_
            obtain ⟨g9, hm⟩ := gd_e hm
            refine zh_getI o g9 fl_X1_600_5 rfl dX1_isSame_61 ?_
            refine zQ.b (fun h => zs_icmp_ne (tgt := 71) o dX1_isSame_64 (by decide)) (fun c => ?_) (fun c => ?_)
            · have hm := if_e2 hm c
              refine zQ.fg (zl_s (zl_s (zl_n (zl_s (zl_n zl_0))))) ?_
              exact hj71 _ _ _ _ _ _ (by omega) (by omega) hm
            · have hm := if_e1 hm c
              refine zQ.s (fun h => zs_iconst (v := 1) o dX1_isSame_67 (by decide)) ?_
              refine zQ.s (fun h => zs_goto (tgt := 72) o dX1_isSame_68 (by decide)) ?_
              refine zQ.fg (zl_s (zl_s (zl_n (zl_s (zl_n zl_0))))) ?_
              exact hj72 _ _ _ _ _ _ _ (by omega) (by omega) hm
  unfold j_X1_isSame at hm
  refine zQ.s (fun h => zs_aload_n (i := 0) o dX1_isSame_0 rfl rfl) ?_
  obtain ⟨g1, hm⟩ := gd_e hm
  obtain ⟨y2, c_y2, hm⟩ := bd_e hm
  refine zh_Vr o g1 ml_X1_618 (J_X1_plain G _ _ _ _  c_y2) dX1_isSame_1 rfl rfl rfl rfl (by omega) (by omega) ?_
  refine zQ.s (fun h => zs_astore_n (i := 1) o dX1_isSame_4 rfl (by decide) (Or.inr (zc2_ref rfl)) (by simp only [List.set_cons_succ, List.set_cons_zero]; rfl)) ?_
  refine zQ.s (fun h => zs_iconst (v := 1) o dX1_isSame_5 (by decide)) ?_
  refine zQ.s (fun h => zs_istore_n (i := 2) o dX1_isSame_6 rfl (by decide) (Or.inr (zc2_ref rfl)) (by simp only [List.set_cons_succ, List.set_cons_zero]; rfl)) ?_
  refine zQ.s (fun h => zs_aload_n (i := 0) o dX1_isSame_7 rfl rfl) ?_
  obtain ⟨g3, hm⟩ := gd_e hm
  refine zh_getR o g3 fl_X1_107_1 rfl dX1_isSame_8 ?_
  obtain ⟨g4, hm⟩ := gd_e hm
  obtain ⟨y5, c_y5, hm⟩ := bd_e hm
  refine zh_Fr o g4 ml_X1_208_10 (J_J2_iterator G _ _ _ _  c_y5) dX1_isSame_11 rfl rfl rfl rfl (by omega) (by omega) ?_
  refine zQ.s (fun h => zs_astore_n (i := 3) o dX1_isSame_16 rfl (by decide) (Or.inr rfl) (by simp only [List.set_cons_succ, List.set_cons_zero]; rfl)) ?_
  exact hl17 2100 (Nat.le_refl _) _ _ _ _ _ _ _ (by omega) (by omega) hm

def j_X1_isWhole_j60 (k4 : zH → Nat → Int32 → Int32 → Option (zH × Int32)) (k23 : zH → Nat → Int32 → Int32 → Int32 → Nat → Option (zH × Int32)) (h : zH) (x0 : Nat) (x1 : Int32) (x2 : Int32) (x4 : Nat) (s1 : Int32) (s0 : Int32) : Option (zH × Int32) :=
  lt (s0 + s1) fun v1 =>
  k23 h x0 x1 x2 v1 x4
def j_X1_isWhole_j144 (k4 : zH → Nat → Int32 → Int32 → Option (zH × Int32)) (k103 : zH → Nat → Int32 → Int32 → Int32 → Int32 → Nat → Option (zH × Int32)) (h : zH) (x0 : Nat) (x1 : Int32) (x2 : Int32) (x3 : Int32) (x5 : Nat) (s0 : Int32) : Option (zH × Int32) :=
  k103 h x0 x1 x2 x3 s0 x5
def j_X1_isWhole_j139 (k4 : zH → Nat → Int32 → Int32 → Option (zH × Int32)) (k103 : zH → Nat → Int32 → Int32 → Int32 → Int32 → Nat → Option (zH × Int32)) (h : zH) (x0 : Nat) (x1 : Int32) (x2 : Int32) (x3 : Int32) (x5 : Nat) : Option (zH × Int32) :=
  j_X1_isWhole_j144 k4 k103 h x0 x1 x2 x3 x5 (1 : Int32)
def j_X1_isWhole_j175 (k4 : zH → Nat → Int32 → Int32 → Option (zH × Int32)) (h : zH) (x0 : Nat) (x2 : Int32) (s0 : Int32) : Option (zH × Int32) :=
  k4 h x0 s0 (x2 + (1 : Int32))
def j_X1_isWhole_j170 (k4 : zH → Nat → Int32 → Int32 → Option (zH × Int32)) (h : zH) (x0 : Nat) (x2 : Int32) : Option (zH × Int32) :=
  j_X1_isWhole_j175 k4 h x0 x2 (1 : Int32)
def j_X1_isWhole_j174 (k4 : zH → Nat → Int32 → Int32 → Option (zH × Int32)) (h : zH) (x0 : Nat) (x2 : Int32) : Option (zH × Int32) :=
  j_X1_isWhole_j175 k4 h x0 x2 (0 : Int32)
def j_X1_isWhole_b103 (k4 : zH → Nat → Int32 → Int32 → Option (zH × Int32)) (k103 : zH → Nat → Int32 → Int32 → Int32 → Int32 → Nat → Option (zH × Int32)) (h : zH) (x0 : Nat) (x1 : Int32) (x2 : Int32) (x3 : Int32) (x4 : Int32) (x5 : Nat) : Option (zH × Int32) :=
  gd (kd h x5 16) <|
  bd (j_J28_hasNext h x5) fun y2 =>
  if y2.2 = (0 : Int32) then
    if x1 = (0 : Int32) then
      j_X1_isWhole_j174 k4 y2.1 x0 x2
    else
      if x4 = (0 : Int32) then
        if x3 = (1 : Int32) then
          j_X1_isWhole_j170 k4 y2.1 x0 x2
        else
          j_X1_isWhole_j174 k4 y2.1 x0 x2
      else
        if x3 = (0 : Int32) then
          j_X1_isWhole_j170 k4 y2.1 x0 x2
        else
          j_X1_isWhole_j174 k4 y2.1 x0 x2
  else
    gd (kd y2.1 x5 16) <|
    bd (j_J28_next y2.1 x5) fun y4 =>
    gd (kd y4.1 y4.2 8) <|
    if x4 = (0 : Int32) then
      gd (kd y4.1 y4.2 8) <|
      if (hI y4.1 8 12 y4.2) = x2 then
        j_X1_isWhole_j139 k4 k103 y4.1 x0 x1 x2 x3 x5
      else
        j_X1_isWhole_j144 k4 k103 y4.1 x0 x1 x2 x3 x5 (0 : Int32)
    else
      j_X1_isWhole_j139 k4 k103 y4.1 x0 x1 x2 x3 x5
def j_X1_isWhole_l103 (k4 : zH → Nat → Int32 → Int32 → Option (zH × Int32)) : Nat → zH → Nat → Int32 → Int32 → Int32 → Int32 → Nat → Option (zH × Int32)
  | 0 => fun _ _ _ _ _ _ _ => none
  | n + 1 => j_X1_isWhole_b103 k4 (j_X1_isWhole_l103 k4 n)
def j_X1_isWhole_j92 (k4 : zH → Nat → Int32 → Int32 → Option (zH × Int32)) (h : zH) (x0 : Nat) (x1 : Int32) (x2 : Int32) (x3 : Int32) (s0 : Int32) : Option (zH × Int32) :=
  gd (kd h x0 1) <|
  gd (kd h (hR h 1 15 x0) 13) <|
  bd (j_J5_iterator h (hR h 1 15 x0)) fun y3 =>
  j_X1_isWhole_l103 k4 25 y3.1 x0 x1 x2 x3 s0 y3.2
def j_X1_isWhole_j87 (k4 : zH → Nat → Int32 → Int32 → Option (zH × Int32)) (h : zH) (x0 : Nat) (x1 : Int32) (x2 : Int32) (x3 : Int32) : Option (zH × Int32) :=
  j_X1_isWhole_j92 k4 h x0 x1 x2 x3 (1 : Int32)
def j_X1_isWhole_b23 (k4 : zH → Nat → Int32 → Int32 → Option (zH × Int32)) (k23 : zH → Nat → Int32 → Int32 → Int32 → Nat → Option (zH × Int32)) (h : zH) (x0 : Nat) (x1 : Int32) (x2 : Int32) (x3 : Int32) (x4 : Nat) : Option (zH × Int32) :=
  gd (kd h x4 18) <|
  bd (j_J35_hasNext h x4) fun y2 =>
  if y2.2 = (0 : Int32) then
    gd (kd y2.1 x0 1) <|
    bd (j_X1_has y2.1 (hR y2.1 1 11 x0) x2) fun y4 =>
    if y4.2 = (0 : Int32) then
      gd (kd y4.1 x0 1) <|
      bd (j_X1_has y4.1 (hR y4.1 1 12 x0) x2) fun y6 =>
      if y6.2 = (0 : Int32) then
        j_X1_isWhole_j92 k4 y6.1 x0 x1 x2 x3 (0 : Int32)
      else
        j_X1_isWhole_j87 k4 y6.1 x0 x1 x2 x3
    else
      j_X1_isWhole_j87 k4 y4.1 x0 x1 x2 x3
  else
    gd (kd y2.1 x4 18) <|
    bd (j_J35_next y2.1 x4) fun y8 =>
    gd (kd y8.1 y8.2 19) <|
    gd (kd y8.1 y8.2 19) <|
    bd (j_J21_intValue y8.1 y8.2) fun y11 =>
    if y11.2 = x2 then
      j_X1_isWhole_j60 k4 k23 y11.1 x0 x1 x2 x4 (1 : Int32) x3
    else
      j_X1_isWhole_j60 k4 k23 y11.1 x0 x1 x2 x4 (0 : Int32) x3
def j_X1_isWhole_l23 (k4 : zH → Nat → Int32 → Int32 → Option (zH × Int32)) : Nat → zH → Nat → Int32 → Int32 → Int32 → Nat → Option (zH × Int32)
  | 0 => fun _ _ _ _ _ _ => none
  | n + 1 => j_X1_isWhole_b23 k4 (j_X1_isWhole_l23 k4 n)
def j_X1_isWhole_b4 (k4 : zH → Nat → Int32 → Int32 → Option (zH × Int32)) (h : zH) (x0 : Nat) (x1 : Int32) (x2 : Int32) : Option (zH × Int32) :=
  gd (kd h x0 1) <|
  if (hI h 1 8 x0) ≤ x2 then
    gd (b01 x1) <|
    some (h, x1)
  else
    gd (kd h x0 1) <|
    gd (kd h (hR h 1 13 x0) 12) <|
    bd (j_J4_iterator h (hR h 1 13 x0)) fun y5 =>
    j_X1_isWhole_l23 k4 25 y5.1 x0 x1 x2 (0 : Int32) y5.2
def j_X1_isWhole_l4 : Nat → zH → Nat → Int32 → Int32 → Option (zH × Int32)
  | 0 => fun _ _ _ _ => none
  | n + 1 => j_X1_isWhole_b4 (j_X1_isWhole_l4 n)
def j_X1_isWhole (h : zH) (p : Nat) : Option (zH × Int32) :=
  j_X1_isWhole_l4 25 h p (1 : Int32) (0 : Int32)

set_option maxHeartbeats 40000000 in
theorem J_X1_isWhole (G : zG) (h : zH) (p : Nat) (V : Int32) (h9 : zH) (hm : j_X1_isWhole h p = some (h9, V)) : zJi G yX1_isWhole cX1_isWhole 7 (some .boolean) 5 50 225 [zrf p] h V h9 := by
  refine zCo.st [some (zrf p), none, none, none, none, none, none] rfl rfl (by simp only [zarg_r, zarg_i, zarg_l, zarg_0]; rfl) (fun X o f0 hin hw0 => ?_)
  have f := f0.e
  have hin : (Xt X).name = "isWhole" := hin
  refine (?_ : zQ (EH h) G X 0 0 0 [some (zrf p), none, none, none, none, none, none] []) h rfl hw0
  clear hw0
  generalize hR9 : ((h9, V) : (zH × Int32)) = R at hm
  have hl4 : ∀ (n4 : Nat), n4 ≤ 25 → ∀ (h : zH) (x0 : Nat) (x1 : Int32) (x2 : Int32) (cl sl : Nat), cl + (n4 * 2 + 0) ≤ 50 → sl + (n4 * 9 + 0) ≤ 225 → j_X1_isWhole_l4 n4 h x0 x1 x2 = some R → zQ (EH h) G X cl sl 4 [some (zrf x0), some (.int x1), some (.int x2), none, none, none, none] [] := by
    intro n4
    induction n4 with
    | zero => intro _ h x0 x1 x2 cl sl _ _ hm; exact no_e hm
    | succ n4 ih =>
      intro hf4
      have ih4 := ih (by omega)
      have hj175 : ∀ (h : zH) (x0 : Nat) (x2 : Int32) (s0 : Int32) (cl sl : Nat), cl + (0 + (n4 * 2 + 0)) ≤ 50 → sl + (0 + (n4 * 9 + 0)) ≤ 225 → j_X1_isWhole_j175 (j_X1_isWhole_l4 n4) h x0 x2 s0 = some R → zQ (EH h) G X cl sl 175 [some (zrf x0), none, some (.int x2), none, none, none, none] [.int s0] := by
        intro h x0 x2 s0 cl sl hc hs hm
        unfold j_X1_isWhole_j175 at hm
        refine zQ.s (fun h => zs_istore_n (i := 1) o dX1_isWhole_175 rfl (by decide) (Or.inr (zc2_ref rfl)) (by simp only [List.set_cons_succ, List.set_cons_zero]; rfl)) ?_
        refine zQ.s (fun h => zs_iinc (i := 2) (v := x2 + (1 : Int32)) o dX1_isWhole_176 rfl rfl (by decide) (Or.inr rfl) (by simp only [List.set_cons_succ, List.set_cons_zero]; rfl)) ?_
        refine zQ.s (fun h => zs_goto (tgt := 4) o dX1_isWhole_179 (by decide)) ?_
        exact ih4 _ _ _ _ _ _ (by omega) (by omega) hm
      have hj174 : ∀ (h : zH) (x0 : Nat) (x2 : Int32) (cl sl : Nat), cl + (0 + (n4 * 2 + 0)) ≤ 50 → sl + (0 + (n4 * 9 + 0)) ≤ 225 → j_X1_isWhole_j174 (j_X1_isWhole_l4 n4) h x0 x2 = some R → zQ (EH h) G X cl sl 174 [some (zrf x0), none, some (.int x2), none, none, none, none] [] := by
        intro h x0 x2 cl sl hc hs hm
        unfold j_X1_isWhole_j174 at hm
        refine zQ.s (fun h => zs_iconst (v := 0) o dX1_isWhole_174 (by decide)) ?_
        exact hj175 _ _ _ _ _ _ (by omega) (by omega) hm
      have hj170 : ∀ (h : zH) (x0 : Nat) (x2 : Int32) (cl sl : Nat), cl + (0 + (n4 * 2 + 0)) ≤ 50 → sl + (0 + (n4 * 9 + 0)) ≤ 225 → j_X1_isWhole_j170 (j_X1_isWhole_l4 n4) h x0 x2 = some R → zQ (EH h) G X cl sl 170 [some (zrf x0), none, some (.int x2), none, none, none, none] [] := by
        intro h x0 x2 cl sl hc hs hm
        unfold j_X1_isWhole_j170 at hm
        refine zQ.s (fun h => zs_iconst (v := 1) o dX1_isWhole_170 (by decide)) ?_
        refine zQ.s (fun h => zs_goto (tgt := 175) o dX1_isWhole_171 (by decide)) ?_
        exact hj175 _ _ _ _ _ _ (by omega) (by omega) hm
      have hl103 : ∀ (n103 : Nat), n103 ≤ 25 → ∀ (h : zH) (x0 : Nat) (x1 : Int32) (x2 : Int32) (x3 : Int32) (x4 : Int32) (x5 : Nat) (cl sl : Nat), cl + (0 + (n4 * 2 + 0)) ≤ 50 → sl + (0 + (n4 * 9 + 0)) ≤ 225 → j_X1_isWhole_l103 (j_X1_isWhole_l4 n4) n103 h x0 x1 x2 x3 x4 x5 = some R → zQ (EH h) G X cl sl 103 [some (zrf x0), some (.int x1), some (.int x2), some (.int x3), some (.int x4), some (zrf x5), none] [] := by
        intro n103
        induction n103 with
        | zero => intro _ h x0 x1 x2 x3 x4 x5 cl sl _ _ hm; exact no_e hm
        | succ n103 ih =>
          intro hf103
          have ih103 := ih (by omega)
          have hj144 : ∀ (h : zH) (x0 : Nat) (x1 : Int32) (x2 : Int32) (x3 : Int32) (x5 : Nat) (s0 : Int32) (cl sl : Nat), cl + (0 + (n4 * 2 + 0)) ≤ 50 → sl + (0 + (n4 * 9 + 0)) ≤ 225 → j_X1_isWhole_j144 (j_X1_isWhole_l4 n4) (j_X1_isWhole_l103 (j_X1_isWhole_l4 n4) n103) h x0 x1 x2 x3 x5 s0 = some R → zQ (EH h) G X cl sl 144 [some (zrf x0), some (.int x1), some (.int x2), some (.int x3), none, some (zrf x5), none] [.int s0] := by
            intro h x0 x1 x2 x3 x5 s0 cl sl hc hs hm
            unfold j_X1_isWhole_j144 at hm
            refine zQ.s (fun h => zs_istore (i := 4) o dX1_isWhole_144 (by decide) (Or.inr rfl) (by simp only [List.set_cons_succ, List.set_cons_zero]; rfl)) ?_
            refine zQ.s (fun h => zs_goto (tgt := 103) o dX1_isWhole_146 (by decide)) ?_
            exact ih103 _ _ _ _ _ _ _ _ _ (by omega) (by omega) hm
          have hj139 : ∀ (h : zH) (x0 : Nat) (x1 : Int32) (x2 : Int32) (x3 : Int32) (x5 : Nat) (cl sl : Nat), cl + (0 + (n4 * 2 + 0)) ≤ 50 → sl + (0 + (n4 * 9 + 0)) ≤ 225 → j_X1_isWhole_j139 (j_X1_isWhole_l4 n4) (j_X1_isWhole_l103 (j_X1_isWhole_l4 n4) n103) h x0 x1 x2 x3 x5 = some R → zQ (EH h) G X cl sl 139 [some (zrf x0), some (.int x1), some (.int x2), some (.int x3), none, some (zrf x5), none] [] := by
            intro h x0 x1 x2 x3 x5 cl sl hc hs hm
            unfold j_X1_isWhole_j139 at hm
            refine zQ.s (fun h => zs_iconst (v := 1) o dX1_isWhole_139 (by decide)) ?_
            refine zQ.s (fun h => zs_goto (tgt := 144) o dX1_isWhole_140 (by decide)) ?_
            exact hj144 _ _ _ _ _ _ _ _ _ (by omega) (by omega) hm
          intro h x0 x1 x2 x3 x4 x5 cl sl hc hs hm
          have hm : j_X1_isWhole_b103 (j_X1_isWhole_l4 n4) (j_X1_isWhole_l103 (j_X1_isWhole_l4 n4) n103) h x0 x1 x2 x3 x4 x5 = some R := hm
          unfold j_X1_isWhole_b103 at hm
          refine zQ.s (fun h => zs_aload (i := 5) o dX1_isWhole_103 rfl) ?_
          obtain ⟨g1, hm⟩ := gd_e hm
          obtain ⟨y2, c_y2, hm⟩ := bd_e hm
          refine zh_Fi o g1 ml_X1_164_16 (J_J28_hasNext G _ _ _ _  c_y2) dX1_isWhole_105 rfl rfl rfl rfl (by omega) (by omega) ?_
          refine zQ.b (fun h => zs_if_eq (tgt := 149) o dX1_isWhole_110 (by decide)) (fun c => ?_) (fun c => ?_)
          · have hm := if_e1 hm c
            refine zQ.s (fun h => zs_iload_n (i := 1) o dX1_isWhole_149 rfl rfl) ?_
            refine zQ.b (fun h => zs_if_eq (tgt := 174) o dX1_isWhole_150 (by decide)) (fun c => ?_) (fun c => ?_)
            · have hm := if_e1 hm c
              refine zQ.fg (zl_s (zl_n (zl_s (zl_n (zl_n (zl_n (zl_n zl_0))))))) ?_
              exact hj174 _ _ _ _ _ (by omega) (by omega) hm
            · have hm := if_e2 hm c
              refine zQ.s (fun h => zs_iload (i := 4) o dX1_isWhole_153 rfl) ?_
              refine zQ.b (fun h => zs_if_eq (tgt := 165) o dX1_isWhole_155 (by decide)) (fun c => ?_) (fun c => ?_)
              · have hm := if_e1 hm c
                refine zQ.s (fun h => zs_iload_n (i := 3) o dX1_isWhole_165 rfl rfl) ?_
                refine zQ.s (fun h => zs_iconst (v := 1) o dX1_isWhole_166 (by decide)) ?_
                refine zQ.b (fun h => zs_icmp_ne (tgt := 174) o dX1_isWhole_167 (by decide)) (fun c => ?_) (fun c => ?_)
                · have hm := if_e2 hm c
                  refine zQ.fg (zl_s (zl_n (zl_s (zl_n (zl_n (zl_n (zl_n zl_0))))))) ?_
                  exact hj174 _ _ _ _ _ (by omega) (by omega) hm
                · have hm := if_e1 hm c
                  refine zQ.fg (zl_s (zl_n (zl_s (zl_n (zl_n (zl_n (zl_n zl_0))))))) ?_
                  exact hj170 _ _ _ _ _ (by omega) (by omega) hm
              · have hm := if_e2 hm c
                refine zQ.s (fun h => zs_iload_n (i := 3) o dX1_isWhole_158 rfl rfl) ?_
                refine zQ.b (fun h => zs_if_ne (tgt := 174) o dX1_isWhole_159 (by decide)) (fun c => ?_) (fun c => ?_)
                · have hm := if_e2 hm c
                  refine zQ.fg (zl_s (zl_n (zl_s (zl_n (zl_n (zl_n (zl_n zl_0))))))) ?_
                  exact hj174 _ _ _ _ _ (by omega) (by omega) hm
                · have hm := if_e1 hm c
                  refine zQ.s (fun h => zs_goto (tgt := 170) o dX1_isWhole_162 (by decide)) ?_
                  refine zQ.fg (zl_s (zl_n (zl_s (zl_n (zl_n (zl_n (zl_n zl_0))))))) ?_
                  exact hj170 _ _ _ _ _ (by omega) (by omega) hm
          · have hm := if_e2 hm c
            refine zQ.s (fun h => zs_aload (i := 5) o dX1_isWhole_113 rfl) ?_
            obtain ⟨g3, hm⟩ := gd_e hm
            obtain ⟨y4, c_y4, hm⟩ := bd_e hm
            refine zh_Fr o g3 ml_X1_170_16 (J_J28_next G _ _ _ _  c_y4) dX1_isWhole_115 rfl rfl rfl rfl (by omega) (by omega) ?_
            obtain ⟨g5, hm⟩ := gd_e hm
            refine zh_cast (c := 8) o q1468 (by decide) (by decide) g5 dX1_isWhole_120 ?_
            refine zQ.s (fun h => zs_astore (i := 6) o dX1_isWhole_123 (by decide) (Or.inr (zc2_ref rfl)) (by simp only [List.set_cons_succ, List.set_cons_zero]; rfl)) ?_
            refine zQ.s (fun h => zs_iload (i := 4) o dX1_isWhole_125 rfl) ?_
            refine zQ.b (fun h => zs_if_ne (tgt := 139) o dX1_isWhole_127 (by decide)) (fun c => ?_) (fun c => ?_)
            · have hm := if_e2 hm c
              refine zQ.fg (zl_s (zl_s (zl_s (zl_s (zl_n (zl_s (zl_n zl_0))))))) ?_
              exact hj139 _ _ _ _ _ _ _ _ (by omega) (by omega) hm
            · have hm := if_e1 hm c
              refine zQ.s (fun h => zs_aload (i := 6) o dX1_isWhole_130 rfl) ?_
              obtain ⟨g6, hm⟩ := gd_e hm
              refine zh_getI o g6 fl_X1_328_8 rfl dX1_isWhole_132 ?_
              refine zQ.s (fun h => zs_iload_n (i := 2) o dX1_isWhole_135 rfl rfl) ?_
              refine zQ.b (fun h => zs_icmp_ne (tgt := 143) o dX1_isWhole_136 (by decide)) (fun c => ?_) (fun c => ?_)
              · have hm := if_e2 hm c
                refine zQ.s (fun h => zs_iconst (v := 0) o dX1_isWhole_143 (by decide)) ?_
                refine zQ.fg (zl_s (zl_s (zl_s (zl_s (zl_n (zl_s (zl_n zl_0))))))) ?_
                exact hj144 _ _ _ _ _ _ _ _ _ (by omega) (by omega) hm
              · have hm := if_e1 hm c
                refine zQ.fg (zl_s (zl_s (zl_s (zl_s (zl_n (zl_s (zl_n zl_0))))))) ?_
                exact hj139 _ _ _ _ _ _ _ _ (by omega) (by omega) hm
      have hj92 : ∀ (h : zH) (x0 : Nat) (x1 : Int32) (x2 : Int32) (x3 : Int32) (s0 : Int32) (cl sl : Nat), cl + (1 + (n4 * 2 + 0)) ≤ 50 → sl + (5 + (n4 * 9 + 0)) ≤ 225 → j_X1_isWhole_j92 (j_X1_isWhole_l4 n4) h x0 x1 x2 x3 s0 = some R → zQ (EH h) G X cl sl 92 [some (zrf x0), some (.int x1), some (.int x2), some (.int x3), none, none, none] [.int s0] := by
        intro h x0 x1 x2 x3 s0 cl sl hc hs hm
        unfold j_X1_isWhole_j92 at hm
        refine zQ.s (fun h => zs_istore (i := 4) o dX1_isWhole_92 (by decide) (Or.inr rfl) (by simp only [List.set_cons_succ, List.set_cons_zero]; rfl)) ?_
        refine zQ.s (fun h => zs_aload_n (i := 0) o dX1_isWhole_94 rfl rfl) ?_
        obtain ⟨g1, hm⟩ := gd_e hm
        refine zh_getR o g1 fl_X1_79_1 rfl dX1_isWhole_95 ?_
        obtain ⟨g2, hm⟩ := gd_e hm
        obtain ⟨y3, c_y3, hm⟩ := bd_e hm
        refine zh_Ur o g2 ml_X1_160 (J_J5_iterator G _ _ _ _  c_y3) dX1_isWhole_98 rfl rfl rfl rfl (by omega) (by omega) ?_
        refine zQ.s (fun h => zs_astore (i := 5) o dX1_isWhole_101 (by decide) (Or.inr rfl) (by simp only [List.set_cons_succ, List.set_cons_zero]; rfl)) ?_
        exact hl103 25 (Nat.le_refl _) _ _ _ _ _ _ _ _ _ (by omega) (by omega) hm
      have hj87 : ∀ (h : zH) (x0 : Nat) (x1 : Int32) (x2 : Int32) (x3 : Int32) (cl sl : Nat), cl + (1 + (n4 * 2 + 0)) ≤ 50 → sl + (5 + (n4 * 9 + 0)) ≤ 225 → j_X1_isWhole_j87 (j_X1_isWhole_l4 n4) h x0 x1 x2 x3 = some R → zQ (EH h) G X cl sl 87 [some (zrf x0), some (.int x1), some (.int x2), some (.int x3), none, none, none] [] := by
        intro h x0 x1 x2 x3 cl sl hc hs hm
        unfold j_X1_isWhole_j87 at hm
        refine zQ.s (fun h => zs_iconst (v := 1) o dX1_isWhole_87 (by decide)) ?_
        refine zQ.s (fun h => zs_goto (tgt := 92) o dX1_isWhole_88 (by decide)) ?_
        exact hj92 _ _ _ _ _ _ _ _ (by omega) (by omega) hm
      have hl23 : ∀ (n23 : Nat), n23 ≤ 25 → ∀ (h : zH) (x0 : Nat) (x1 : Int32) (x2 : Int32) (x3 : Int32) (x4 : Nat) (cl sl : Nat), cl + (1 + (n4 * 2 + 0)) ≤ 50 → sl + (5 + (n4 * 9 + 0)) ≤ 225 → j_X1_isWhole_l23 (j_X1_isWhole_l4 n4) n23 h x0 x1 x2 x3 x4 = some R → zQ (EH h) G X cl sl 23 [some (zrf x0), some (.int x1), some (.int x2), some (.int x3), some (zrf x4), none, none] [] := by
        intro n23
        induction n23 with
        | zero => intro _ h x0 x1 x2 x3 x4 cl sl _ _ hm; exact no_e hm
        | succ n23 ih =>
          intro hf23
          have ih23 := ih (by omega)
          have hj60 : ∀ (h : zH) (x0 : Nat) (x1 : Int32) (x2 : Int32) (x4 : Nat) (s1 : Int32) (s0 : Int32) (cl sl : Nat), cl + (0 + (n4 * 2 + 0) + (n23 * 0 + 1)) ≤ 50 → sl + (0 + (n4 * 9 + 0) + (n23 * 0 + 5)) ≤ 225 → j_X1_isWhole_j60 (j_X1_isWhole_l4 n4) (j_X1_isWhole_l23 (j_X1_isWhole_l4 n4) n23) h x0 x1 x2 x4 s1 s0 = some R → zQ (EH h) G X cl sl 60 [some (zrf x0), some (.int x1), some (.int x2), none, some (zrf x4), none, none] [.int s1, .int s0] := by
            intro h x0 x1 x2 x4 s1 s0 cl sl hc hs hm
            unfold j_X1_isWhole_j60 at hm
            refine zQ.s (fun h => zs_iadd o dX1_isWhole_60) ?_
            obtain ⟨v1, e_v1, hm⟩ := lt_e hm
            refine zQ.nmi e_v1 ?_
            refine zQ.s (fun h => zs_istore_n (i := 3) o dX1_isWhole_61 rfl (by decide) (Or.inr rfl) (by simp only [List.set_cons_succ, List.set_cons_zero]; rfl)) ?_
            refine zQ.s (fun h => zs_goto (tgt := 23) o dX1_isWhole_62 (by decide)) ?_
            exact ih23 _ _ _ _ _ _ _ _ (by omega) (by omega) hm
          intro h x0 x1 x2 x3 x4 cl sl hc hs hm
          have hm : j_X1_isWhole_b23 (j_X1_isWhole_l4 n4) (j_X1_isWhole_l23 (j_X1_isWhole_l4 n4) n23) h x0 x1 x2 x3 x4 = some R := hm
          unfold j_X1_isWhole_b23 at hm
          refine zQ.s (fun h => zs_aload (i := 4) o dX1_isWhole_23 rfl) ?_
          obtain ⟨g1, hm⟩ := gd_e hm
          obtain ⟨y2, c_y2, hm⟩ := bd_e hm
          refine zh_Fi o g1 ml_X1_164_18 (J_J35_hasNext G _ _ _ _  c_y2) dX1_isWhole_25 rfl rfl rfl rfl (by omega) (by omega) ?_
          refine zQ.b (fun h => zs_if_eq (tgt := 65) o dX1_isWhole_30 (by decide)) (fun c => ?_) (fun c => ?_)
          · have hm := if_e1 hm c
            refine zQ.s (fun h => zs_aload_n (i := 0) o dX1_isWhole_65 rfl rfl) ?_
            obtain ⟨g3, hm⟩ := gd_e hm
            refine zh_getR o g3 fl_X1_60_1 rfl dX1_isWhole_66 ?_
            refine zQ.s (fun h => zs_iload_n (i := 2) o dX1_isWhole_69 rfl rfl) ?_
            obtain ⟨y4, c_y4, hm⟩ := bd_e hm
            refine zh_Si o ml_X1_657 (J_X1_has G _ _ _ _ _  c_y4) dX1_isWhole_70 rfl rfl rfl rfl (by omega) (by omega) ?_
            refine zQ.b (fun h => zs_if_ne (tgt := 87) o dX1_isWhole_73 (by decide)) (fun c => ?_) (fun c => ?_)
            · have hm := if_e2 hm c
              refine zQ.fg (zl_s (zl_s (zl_s (zl_s (zl_n (zl_n (zl_n zl_0))))))) ?_
              exact hj87 _ _ _ _ _ _ _ (by omega) (by omega) hm
            · have hm := if_e1 hm c
              refine zQ.s (fun h => zs_aload_n (i := 0) o dX1_isWhole_76 rfl rfl) ?_
              obtain ⟨g5, hm⟩ := gd_e hm
              refine zh_getR o g5 fl_X1_63_1 rfl dX1_isWhole_77 ?_
              refine zQ.s (fun h => zs_iload_n (i := 2) o dX1_isWhole_80 rfl rfl) ?_
              obtain ⟨y6, c_y6, hm⟩ := bd_e hm
              refine zh_Si o ml_X1_657 (J_X1_has G _ _ _ _ _  c_y6) dX1_isWhole_81 rfl rfl rfl rfl (by omega) (by omega) ?_
              refine zQ.b (fun h => zs_if_eq (tgt := 91) o dX1_isWhole_84 (by decide)) (fun c => ?_) (fun c => ?_)
              · have hm := if_e1 hm c
                refine zQ.s (fun h => zs_iconst (v := 0) o dX1_isWhole_91 (by decide)) ?_
                refine zQ.fg (zl_s (zl_s (zl_s (zl_s (zl_n (zl_n (zl_n zl_0))))))) ?_
                exact hj92 _ _ _ _ _ _ _ _ (by omega) (by omega) hm
              · have hm := if_e2 hm c
                refine zQ.fg (zl_s (zl_s (zl_s (zl_s (zl_n (zl_n (zl_n zl_0))))))) ?_
                exact hj87 _ _ _ _ _ _ _ (by omega) (by omega) hm
          · have hm := if_e2 hm c
            refine zQ.s (fun h => zs_aload (i := 4) o dX1_isWhole_33 rfl) ?_
            obtain ⟨g7, hm⟩ := gd_e hm
            obtain ⟨y8, c_y8, hm⟩ := bd_e hm
            refine zh_Fr o g7 ml_X1_170_18 (J_J35_next G _ _ _ _  c_y8) dX1_isWhole_35 rfl rfl rfl rfl (by omega) (by omega) ?_
            obtain ⟨g9, hm⟩ := gd_e hm
            refine zh_cast (c := 19) o q1456 (by decide) (by decide) g9 dX1_isWhole_40 ?_
            obtain ⟨g10, hm⟩ := gd_e hm
            obtain ⟨y11, c_y11, hm⟩ := bd_e hm
            refine zh_Vi o g10 ml_X1_531 (J_J21_intValue G _ _ _ _  c_y11) dX1_isWhole_43 rfl rfl rfl rfl (by omega) (by omega) ?_
            refine zQ.s (fun h => zs_istore (i := 5) o dX1_isWhole_46 (by decide) (Or.inr (zc2_ref rfl)) (by simp only [List.set_cons_succ, List.set_cons_zero]; rfl)) ?_
            refine zQ.s (fun h => zs_iload_n (i := 3) o dX1_isWhole_48 rfl rfl) ?_
            refine zQ.s (fun h => zs_iload (i := 5) o dX1_isWhole_49 rfl) ?_
            refine zQ.s (fun h => zs_iload_n (i := 2) o dX1_isWhole_51 rfl rfl) ?_
            refine zQ.b (fun h => zs_icmp_ne (tgt := 59) o dX1_isWhole_52 (by decide)) (fun c => ?_) (fun c => ?_)
            · have hm := if_e2 hm c
              refine zQ.s (fun h => zs_iconst (v := 0) o dX1_isWhole_59 (by decide)) ?_
              refine zQ.fg (zl_s (zl_s (zl_s (zl_n (zl_s (zl_n (zl_n zl_0))))))) ?_
              exact hj60 _ _ _ _ _ _ _ _ _ (by omega) (by omega) hm
            · have hm := if_e1 hm c
              refine zQ.s (fun h => zs_iconst (v := 1) o dX1_isWhole_55 (by decide)) ?_
              refine zQ.s (fun h => zs_goto (tgt := 60) o dX1_isWhole_56 (by decide)) ?_
              refine zQ.fg (zl_s (zl_s (zl_s (zl_n (zl_s (zl_n (zl_n zl_0))))))) ?_
              exact hj60 _ _ _ _ _ _ _ _ _ (by omega) (by omega) hm
      intro h x0 x1 x2 cl sl hc hs hm
      have hm : j_X1_isWhole_b4 (j_X1_isWhole_l4 n4) h x0 x1 x2 = some R := hm
      unfold j_X1_isWhole_b4 at hm
      refine zQ.s (fun h => zs_iload_n (i := 2) o dX1_isWhole_4 rfl rfl) ?_
      refine zQ.s (fun h => zs_aload_n (i := 0) o dX1_isWhole_5 rfl rfl) ?_
      obtain ⟨g1, hm⟩ := gd_e hm
      refine zh_getI o g1 fl_X1_47_1 rfl dX1_isWhole_6 ?_
      refine zQ.b (fun h => zs_icmp_ge (tgt := 182) o dX1_isWhole_9 (by decide)) (fun c => ?_) (fun c => ?_)
      · have hm := if_e1 hm c
        refine zQ.s (fun h => zs_iload_n (i := 1) o dX1_isWhole_182 rfl rfl) ?_
        obtain ⟨g2, hm⟩ := gd_e hm
        refine zh_reti o f dX1_isWhole_183 (b01_e g2).1 (by omega) (by omega) ((so_e hm).trans hR9.symm)
      · have hm := if_e2 hm c
        refine zQ.s (fun h => zs_iconst (v := 0) o dX1_isWhole_12 (by decide)) ?_
        refine zQ.s (fun h => zs_istore_n (i := 3) o dX1_isWhole_13 rfl (by decide) (Or.inr rfl) (by simp only [List.set_cons_succ, List.set_cons_zero]; rfl)) ?_
        refine zQ.s (fun h => zs_aload_n (i := 0) o dX1_isWhole_14 rfl rfl) ?_
        obtain ⟨g3, hm⟩ := gd_e hm
        refine zh_getR o g3 fl_X1_69_1 rfl dX1_isWhole_15 ?_
        obtain ⟨g4, hm⟩ := gd_e hm
        obtain ⟨y5, c_y5, hm⟩ := bd_e hm
        refine zh_Vr o g4 ml_X1_660 (J_J4_iterator G _ _ _ _  c_y5) dX1_isWhole_18 rfl rfl rfl rfl (by omega) (by omega) ?_
        refine zQ.s (fun h => zs_astore (i := 4) o dX1_isWhole_21 (by decide) (Or.inr rfl) (by simp only [List.set_cons_succ, List.set_cons_zero]; rfl)) ?_
        exact hl23 25 (Nat.le_refl _) _ _ _ _ _ _ _ _ (by omega) (by omega) hm
  unfold j_X1_isWhole at hm
  refine zQ.s (fun h => zs_iconst (v := 1) o dX1_isWhole_0 (by decide)) ?_
  refine zQ.s (fun h => zs_istore_n (i := 1) o dX1_isWhole_1 rfl (by decide) (Or.inr (zc2_ref rfl)) (by simp only [List.set_cons_succ, List.set_cons_zero]; rfl)) ?_
  refine zQ.s (fun h => zs_iconst (v := 0) o dX1_isWhole_2 (by decide)) ?_
  refine zQ.s (fun h => zs_istore_n (i := 2) o dX1_isWhole_3 rfl (by decide) (Or.inr rfl) (by simp only [List.set_cons_succ, List.set_cons_zero]; rfl)) ?_
  exact hl4 25 (Nat.le_refl _) _ _ _ _ _ _ (by omega) (by omega) hm

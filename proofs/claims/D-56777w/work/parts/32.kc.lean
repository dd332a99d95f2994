/-! THE COMPONENT, method by method over the heap: printed by mk40.py -/
set_option maxRecDepth 100000
def j_X1_trapOf_j44 (h : zH) (s0 : Int32) : Option (zH × Int32) :=
  some (h, s0)
def j_X1_trapOf_j40 (h : zH) (x1 : Nat) : Option (zH × Int32) :=
  gd (kd h x1 8) <|
  j_X1_trapOf_j44 h (hI h 8 16 x1)
def j_X1_trapOf (h : zH) (p : Nat) (a1 : Nat) : Option (zH × Int32) :=
  gd (kd h a1 8) <|
  gd (kd h (hR h 8 0 a1) 4) <|
  if (hI h 4 0 (hR h 8 0 a1)) = (20 : Int32) then
    some (h, (4 : Int32))
  else
    gd (kd h a1 8) <|
    gd (kd h (hR h 8 0 a1) 4) <|
    if (hI h 4 0 (hR h 8 0 a1)) = (21 : Int32) then
      gd (kd h p 1) <|
      gd (kd h (hR h 1 4 p) 2) <|
      if (hI h 2 2 (hR h 1 4 p)) = (0 : Int32) then
        j_X1_trapOf_j44 h (5 : Int32)
      else
        j_X1_trapOf_j40 h a1
    else
      j_X1_trapOf_j40 h a1

set_option maxHeartbeats 40000000 in
theorem J_X1_trapOf (G : zG) (h : zH) (p : Nat) (a1 : Nat) (V : Int32) (h9 : zH) (hm : j_X1_trapOf h p a1 = some (h9, V)) : zJi G yX1_trapOf cX1_trapOf 2 (some .int) 0 0 0 [zrf p, zrf a1] h V h9 := by
  refine zCo.st [some (zrf p), some (zrf a1)] rfl rfl (by simp only [zarg_r, zarg_i, zarg_l, zarg_0]; rfl) (fun X o f0 hin hw0 => ?_)
  have f := f0.e
  have hin : (Xt X).name = "trapOf" := hin
  refine (?_ : zQ (EH h) G X 0 0 0 [some (zrf p), some (zrf a1)] []) h rfl hw0
  clear hw0
  generalize hR9 : ((h9, V) : (zH × Int32)) = R at hm
  have hj44 : ∀ (h : zH) (s0 : Int32) (cl sl : Nat), cl + (0) ≤ 0 → sl + (0) ≤ 0 → j_X1_trapOf_j44 h s0 = some R → zQ (EH h) G X cl sl 44 [none, none] [.int s0] := by
    intro h s0 cl sl hc hs hm
    unfold j_X1_trapOf_j44 at hm
    refine zh_reti o f dX1_trapOf_44 rfl (by omega) (by omega) ((so_e hm).trans hR9.symm)
  have hj40 : ∀ (h : zH) (x1 : Nat) (cl sl : Nat), cl + (0) ≤ 0 → sl + (0) ≤ 0 → j_X1_trapOf_j40 h x1 = some R → zQ (EH h) G X cl sl 40 [none, some (zrf x1)] [] := by
    intro h x1 cl sl hc hs hm
    unfold j_X1_trapOf_j40 at hm
    refine zQ.s (fun h => zs_aload_n (i := 1) o dX1_trapOf_40 rfl rfl) ?_
    obtain ⟨g1, hm⟩ := gd_e hm
    refine zh_getI o g1 fl_X1_257_8 rfl dX1_trapOf_41 ?_
    refine zQ.fg (zl_n (zl_n zl_0)) ?_
    exact hj44 _ _ _ _ (by omega) (by omega) hm
  unfold j_X1_trapOf at hm
  refine zQ.s (fun h => zs_aload_n (i := 1) o dX1_trapOf_0 rfl rfl) ?_
  obtain ⟨g1, hm⟩ := gd_e hm
  refine zh_getR o g1 fl_X1_220_8 rfl dX1_trapOf_1 ?_
  obtain ⟨g2, hm⟩ := gd_e hm
  refine zh_getI o g2 fl_X1_247_4 rfl dX1_trapOf_4 ?_
  refine zQ.s (fun h => zs_bipush (v := 20) o dX1_trapOf_7 (by decide)) ?_
  refine zQ.b (fun h => zs_icmp_ne (tgt := 14) o dX1_trapOf_9 (by decide)) (fun c => ?_) (fun c => ?_)
  · have hm := if_e2 hm c
    refine zQ.s (fun h => zs_aload_n (i := 1) o dX1_trapOf_14 rfl rfl) ?_
    obtain ⟨g3, hm⟩ := gd_e hm
    refine zh_getR o g3 fl_X1_220_8 rfl dX1_trapOf_15 ?_
    obtain ⟨g4, hm⟩ := gd_e hm
    refine zh_getI o g4 fl_X1_247_4 rfl dX1_trapOf_18 ?_
    refine zQ.s (fun h => zs_bipush (v := 21) o dX1_trapOf_21 (by decide)) ?_
    refine zQ.b (fun h => zs_icmp_ne (tgt := 40) o dX1_trapOf_23 (by decide)) (fun c => ?_) (fun c => ?_)
    · have hm := if_e2 hm c
      refine zQ.fg (zl_n (zl_s zl_0)) ?_
      exact hj40 _ _ _ _ (by omega) (by omega) hm
    · have hm := if_e1 hm c
      refine zQ.s (fun h => zs_aload_n (i := 0) o dX1_trapOf_26 rfl rfl) ?_
      obtain ⟨g5, hm⟩ := gd_e hm
      refine zh_getR o g5 fl_X1_33_1 rfl dX1_trapOf_27 ?_
      obtain ⟨g6, hm⟩ := gd_e hm
      refine zh_getI o g6 fl_X1_356_2 rfl dX1_trapOf_30 ?_
      refine zQ.b (fun h => zs_if_ne (tgt := 40) o dX1_trapOf_33 (by decide)) (fun c => ?_) (fun c => ?_)
      · have hm := if_e2 hm c
        refine zQ.fg (zl_n (zl_s zl_0)) ?_
        exact hj40 _ _ _ _ (by omega) (by omega) hm
      · have hm := if_e1 hm c
        refine zQ.s (fun h => zs_iconst (v := 5) o dX1_trapOf_36 (by decide)) ?_
        refine zQ.s (fun h => zs_goto (tgt := 44) o dX1_trapOf_37 (by decide)) ?_
        refine zQ.fg (zl_n (zl_n zl_0)) ?_
        exact hj44 _ _ _ _ (by omega) (by omega) hm
  · have hm := if_e1 hm c
    refine zQ.s (fun h => zs_iconst (v := 4) o dX1_trapOf_12 (by decide)) ?_
    refine zh_reti o f dX1_trapOf_13 rfl (by omega) (by omega) ((so_e hm).trans hR9.symm)

def j_X1_lacksWord_j36 (h : zH) (s0 : Int32) : Option (zH × Int32) :=
  gd (b01 s0) <|
  some (h, s0)
def j_X1_lacksWord_j35 (h : zH) : Option (zH × Int32) :=
  j_X1_lacksWord_j36 h (0 : Int32)
def j_X1_lacksWord (h : zH) (p : Nat) (a1 : Nat) : Option (zH × Int32) :=
  gd (kd h a1 8) <|
  gd (kd h (hR h 8 0 a1) 4) <|
  bd (j_X4_isStore h (hR h 8 0 a1)) fun y3 =>
  if y3.2 = (0 : Int32) then
    j_X1_lacksWord_j35 y3.1
  else
    gd (kd y3.1 a1 8) <|
    if (hI y3.1 8 16 a1) = (0 : Int32) then
      gd (kd y3.1 p 1) <|
      gd (kd y3.1 a1 8) <|
      gd (kd y3.1 (hR y3.1 1 10 p) 11) <|
      bd (j_J3_get y3.1 (hR y3.1 1 10 p) (hI y3.1 8 11 a1)) fun y8 =>
      if y8.2 = (0 : Int32) then
        j_X1_lacksWord_j36 y8.1 (1 : Int32)
      else
        j_X1_lacksWord_j35 y8.1
    else
      j_X1_lacksWord_j35 y3.1

set_option maxHeartbeats 40000000 in
theorem J_X1_lacksWord (G : zG) (h : zH) (p : Nat) (a1 : Nat) (V : Int32) (h9 : zH) (z_ad : ("java/util/BitSet", "$assertionsDisabled", "Z", .int 1) ∈ zGz G) (hm : j_X1_lacksWord h p a1 = some (h9, V)) : zJi G yX1_lacksWord cX1_lacksWord 2 (some .boolean) 2 0 0 [zrf p, zrf a1] h V h9 := by
  refine zCo.st [some (zrf p), some (zrf a1)] rfl rfl (by simp only [zarg_r, zarg_i, zarg_l, zarg_0]; rfl) (fun X o f0 hin hw0 => ?_)
  have f := f0.e
  have hin : (Xt X).name = "lacksWord" := hin
  refine (?_ : zQ (EH h) G X 0 0 0 [some (zrf p), some (zrf a1)] []) h rfl hw0
  clear hw0
  generalize hR9 : ((h9, V) : (zH × Int32)) = R at hm
  have hj36 : ∀ (h : zH) (s0 : Int32) (cl sl : Nat), cl + (0) ≤ 0 → sl + (0) ≤ 0 → j_X1_lacksWord_j36 h s0 = some R → zQ (EH h) G X cl sl 36 [none, none] [.int s0] := by
    intro h s0 cl sl hc hs hm
    unfold j_X1_lacksWord_j36 at hm
    obtain ⟨g1, hm⟩ := gd_e hm
    refine zh_reti o f dX1_lacksWord_36 (b01_e g1).1 (by omega) (by omega) ((so_e hm).trans hR9.symm)
  have hj35 : ∀ (h : zH) (cl sl : Nat), cl + (0) ≤ 0 → sl + (0) ≤ 0 → j_X1_lacksWord_j35 h = some R → zQ (EH h) G X cl sl 35 [none, none] [] := by
    intro h cl sl hc hs hm
    unfold j_X1_lacksWord_j35 at hm
    refine zQ.s (fun h => zs_iconst (v := 0) o dX1_lacksWord_35 (by decide)) ?_
    exact hj36 _ _ _ _ (by omega) (by omega) hm
  unfold j_X1_lacksWord at hm
  refine zQ.s (fun h => zs_aload_n (i := 1) o dX1_lacksWord_0 rfl rfl) ?_
  obtain ⟨g1, hm⟩ := gd_e hm
  refine zh_getR o g1 fl_X1_220_8 rfl dX1_lacksWord_1 ?_
  obtain ⟨g2, hm⟩ := gd_e hm
  obtain ⟨y3, c_y3, hm⟩ := bd_e hm
  refine zh_Vi o g2 ml_X1_235 (J_X4_isStore G _ _ _ _  c_y3) dX1_lacksWord_4 rfl rfl rfl rfl (by omega) (by omega) ?_
  refine zQ.b (fun h => zs_if_eq (tgt := 35) o dX1_lacksWord_7 (by decide)) (fun c => ?_) (fun c => ?_)
  · have hm := if_e1 hm c
    refine zQ.fg (zl_n (zl_n zl_0)) ?_
    exact hj35 _ _ _ (by omega) (by omega) hm
  · have hm := if_e2 hm c
    refine zQ.s (fun h => zs_aload_n (i := 1) o dX1_lacksWord_10 rfl rfl) ?_
    obtain ⟨g4, hm⟩ := gd_e hm
    refine zh_getI o g4 fl_X1_257_8 rfl dX1_lacksWord_11 ?_
    refine zQ.b (fun h => zs_if_ne (tgt := 35) o dX1_lacksWord_14 (by decide)) (fun c => ?_) (fun c => ?_)
    · have hm := if_e2 hm c
      refine zQ.fg (zl_n (zl_n zl_0)) ?_
      exact hj35 _ _ _ (by omega) (by omega) hm
    · have hm := if_e1 hm c
      refine zQ.s (fun h => zs_aload_n (i := 0) o dX1_lacksWord_17 rfl rfl) ?_
      obtain ⟨g5, hm⟩ := gd_e hm
      refine zh_getR o g5 fl_X1_56_1 rfl dX1_lacksWord_18 ?_
      refine zQ.s (fun h => zs_aload_n (i := 1) o dX1_lacksWord_21 rfl rfl) ?_
      obtain ⟨g6, hm⟩ := gd_e hm
      refine zh_getI o g6 fl_X1_244_8 rfl dX1_lacksWord_22 ?_
      obtain ⟨g7, hm⟩ := gd_e hm
      obtain ⟨y8, c_y8, hm⟩ := bd_e hm
      refine zh_Vi o g7 ml_X1_359 (J_J3_get G _ _ _ _ _ z_ad c_y8) dX1_lacksWord_25 rfl rfl rfl rfl (by omega) (by omega) ?_
      refine zQ.b (fun h => zs_if_ne (tgt := 35) o dX1_lacksWord_28 (by decide)) (fun c => ?_) (fun c => ?_)
      · have hm := if_e2 hm c
        refine zQ.fg (zl_n (zl_n zl_0)) ?_
        exact hj35 _ _ _ (by omega) (by omega) hm
      · have hm := if_e1 hm c
        refine zQ.s (fun h => zs_iconst (v := 1) o dX1_lacksWord_31 (by decide)) ?_
        refine zQ.s (fun h => zs_goto (tgt := 36) o dX1_lacksWord_32 (by decide)) ?_
        refine zQ.fg (zl_n (zl_n zl_0)) ?_
        exact hj36 _ _ _ _ (by omega) (by omega) hm

def j_X1_canRetire_j20 (h : zH) (s0 : Int32) : Option (zH × Int32) :=
  gd (b01 s0) <|
  some (h, s0)
def j_X1_canRetire_j19 (h : zH) : Option (zH × Int32) :=
  j_X1_canRetire_j20 h (0 : Int32)
def j_X1_canRetire (h : zH) (p : Nat) (a1 : Nat) : Option (zH × Int32) :=
  gd (kd h a1 8) <|
  bd (j_X8_isOver h a1) fun y2 =>
  if y2.2 = (0 : Int32) then
    j_X1_canRetire_j19 y2.1
  else
    gd (kd y2.1 p 1) <|
    bd (j_X1_lacksWord y2.1 p a1) fun y4 =>
    if y4.2 = (0 : Int32) then
      j_X1_canRetire_j20 y4.1 (1 : Int32)
    else
      j_X1_canRetire_j19 y4.1

set_option maxHeartbeats 40000000 in
theorem J_X1_canRetire (G : zG) (h : zH) (p : Nat) (a1 : Nat) (V : Int32) (h9 : zH) (z_ad : ("java/util/BitSet", "$assertionsDisabled", "Z", .int 1) ∈ zGz G) (hm : j_X1_canRetire h p a1 = some (h9, V)) : zJi G yX1_canRetire cX1_canRetire 2 (some .boolean) 3 0 0 [zrf p, zrf a1] h V h9 := by
  refine zCo.st [some (zrf p), some (zrf a1)] rfl rfl (by simp only [zarg_r, zarg_i, zarg_l, zarg_0]; rfl) (fun X o f0 hin hw0 => ?_)
  have f := f0.e
  have hin : (Xt X).name = "canRetire" := hin
  refine (?_ : zQ (EH h) G X 0 0 0 [some (zrf p), some (zrf a1)] []) h rfl hw0
  clear hw0
  generalize hR9 : ((h9, V) : (zH × Int32)) = R at hm
  have hj20 : ∀ (h : zH) (s0 : Int32) (cl sl : Nat), cl + (0) ≤ 0 → sl + (0) ≤ 0 → j_X1_canRetire_j20 h s0 = some R → zQ (EH h) G X cl sl 20 [none, none] [.int s0] := by
    intro h s0 cl sl hc hs hm
    unfold j_X1_canRetire_j20 at hm
    obtain ⟨g1, hm⟩ := gd_e hm
    refine zh_reti o f dX1_canRetire_20 (b01_e g1).1 (by omega) (by omega) ((so_e hm).trans hR9.symm)
  have hj19 : ∀ (h : zH) (cl sl : Nat), cl + (0) ≤ 0 → sl + (0) ≤ 0 → j_X1_canRetire_j19 h = some R → zQ (EH h) G X cl sl 19 [none, none] [] := by
    intro h cl sl hc hs hm
    unfold j_X1_canRetire_j19 at hm
    refine zQ.s (fun h => zs_iconst (v := 0) o dX1_canRetire_19 (by decide)) ?_
    exact hj20 _ _ _ _ (by omega) (by omega) hm
  unfold j_X1_canRetire at hm
  refine zQ.s (fun h => zs_aload_n (i := 1) o dX1_canRetire_0 rfl rfl) ?_
  obtain ⟨g1, hm⟩ := gd_e hm
  obtain ⟨y2, c_y2, hm⟩ := bd_e hm
  refine zh_Vi o g1 ml_X1_362 (J_X8_isOver G _ _ _ _  c_y2) dX1_canRetire_1 rfl rfl rfl rfl (by omega) (by omega) ?_
  refine zQ.b (fun h => zs_if_eq (tgt := 19) o dX1_canRetire_4 (by decide)) (fun c => ?_) (fun c => ?_)
  · have hm := if_e1 hm c
    refine zQ.fg (zl_n (zl_n zl_0)) ?_
    exact hj19 _ _ _ (by omega) (by omega) hm
  · have hm := if_e2 hm c
    refine zQ.s (fun h => zs_aload_n (i := 0) o dX1_canRetire_7 rfl rfl) ?_
    refine zQ.s (fun h => zs_aload_n (i := 1) o dX1_canRetire_8 rfl rfl) ?_
    obtain ⟨g3, hm⟩ := gd_e hm
    obtain ⟨y4, c_y4, hm⟩ := bd_e hm
    refine zh_Vi o g3 ml_X1_365 (J_X1_lacksWord G _ _ _ _ _ z_ad c_y4) dX1_canRetire_9 rfl rfl rfl rfl (by omega) (by omega) ?_
    refine zQ.b (fun h => zs_if_ne (tgt := 19) o dX1_canRetire_12 (by decide)) (fun c => ?_) (fun c => ?_)
    · have hm := if_e2 hm c
      refine zQ.fg (zl_n (zl_n zl_0)) ?_
      exact hj19 _ _ _ (by omega) (by omega) hm
    · have hm := if_e1 hm c
      refine zQ.s (fun h => zs_iconst (v := 1) o dX1_canRetire_15 (by decide)) ?_
      refine zQ.s (fun h => zs_goto (tgt := 20) o dX1_canRetire_16 (by decide)) ?_
      refine zQ.fg (zl_n (zl_n zl_0)) ?_
      exact hj20 _ _ _ _ (by omega) (by omega) hm

def j_X1_reasonNow_j39 (h : zH) (s0 : Int32) : Option (zH × Int32) :=
  gd (chr s0) <|
  some (h, s0)
def j_X1_reasonNow (h : zH) (p : Nat) : Option (zH × Int32) :=
  gd (kd h p 1) <|
  gd (kd h (hR h 1 15 p) 13) <|
  bd (j_J0_isEmptyL h (hR h 1 15 p)) fun y3 =>
  if y3.2 = (0 : Int32) then
    gd (kd y3.1 p 1) <|
    gd (kd y3.1 (hR y3.1 1 15 p) 13) <|
    bd (j_J6_getFirst y3.1 (hR y3.1 1 15 p)) fun y6 =>
    gd (kd y6.1 y6.2 8) <|
    gd (kd y6.1 y6.2 8) <|
    lt (hI y6.1 8 14 y6.2) fun v9 =>
    if v9 = (101 : Int32) then
      j_X1_reasonNow_j39 y6.1 (100 : Int32)
    else
      j_X1_reasonNow_j39 y6.1 v9
  else
    some (y3.1, (102 : Int32))

set_option maxHeartbeats 40000000 in
theorem J_X1_reasonNow (G : zG) (h : zH) (p : Nat) (V : Int32) (h9 : zH) (hm : j_X1_reasonNow h p = some (h9, V)) : zJi G yX1_reasonNow cX1_reasonNow 2 (some .char) 2 0 0 [zrf p] h V h9 := by
  refine zCo.st [some (zrf p), none] rfl rfl (by simp only [zarg_r, zarg_i, zarg_l, zarg_0]; rfl) (fun X o f0 hin hw0 => ?_)
  have f := f0.e
  have hin : (Xt X).name = "reasonNow" := hin
  refine (?_ : zQ (EH h) G X 0 0 0 [some (zrf p), none] []) h rfl hw0
  clear hw0
  generalize hR9 : ((h9, V) : (zH × Int32)) = R at hm
  have hj39 : ∀ (h : zH) (s0 : Int32) (cl sl : Nat), cl + (0) ≤ 0 → sl + (0) ≤ 0 → j_X1_reasonNow_j39 h s0 = some R → zQ (EH h) G X cl sl 39 [none, none] [.int s0] := by
    intro h s0 cl sl hc hs hm
    unfold j_X1_reasonNow_j39 at hm
    obtain ⟨g1, hm⟩ := gd_e hm
    refine zh_reti o f dX1_reasonNow_39 (chr_e g1) (by omega) (by omega) ((so_e hm).trans hR9.symm)
  unfold j_X1_reasonNow at hm
  refine zQ.s (fun h => zs_aload_n (i := 0) o dX1_reasonNow_0 rfl rfl) ?_
  obtain ⟨g1, hm⟩ := gd_e hm
  refine zh_getR o g1 fl_X1_79_1 rfl dX1_reasonNow_1 ?_
  obtain ⟨g2, hm⟩ := gd_e hm
  obtain ⟨y3, c_y3, hm⟩ := bd_e hm
  refine zh_Ui o g2 ml_X1_346 (J_J0_isEmptyL G _ _ _ _  c_y3) dX1_reasonNow_4 rfl rfl rfl rfl (by omega) (by omega) ?_
  refine zQ.b (fun h => zs_if_eq (tgt := 13) o dX1_reasonNow_7 (by decide)) (fun c => ?_) (fun c => ?_)
  · have hm := if_e1 hm c
    refine zQ.s (fun h => zs_aload_n (i := 0) o dX1_reasonNow_13 rfl rfl) ?_
    obtain ⟨g4, hm⟩ := gd_e hm
    refine zh_getR o g4 fl_X1_79_1 rfl dX1_reasonNow_14 ?_
    obtain ⟨g5, hm⟩ := gd_e hm
    obtain ⟨y6, c_y6, hm⟩ := bd_e hm
    refine zh_Vr o g5 ml_X1_349 (J_J6_getFirst G _ _ _ _  c_y6) dX1_reasonNow_17 rfl rfl rfl rfl (by omega) (by omega) ?_
    obtain ⟨g7, hm⟩ := gd_e hm
    refine zh_cast (c := 8) o q1468 (by decide) (by decide) g7 dX1_reasonNow_20 ?_
    obtain ⟨g8, hm⟩ := gd_e hm
    refine zh_getI o g8 fl_X1_190_8 rfl dX1_reasonNow_23 ?_
    obtain ⟨v9, e_v9, hm⟩ := lt_e hm
    refine zQ.nmi e_v9 ?_
    refine zQ.s (fun h => zs_istore_n (i := 1) o dX1_reasonNow_26 rfl (by decide) (Or.inr (zc2_ref rfl)) (by simp only [List.set_cons_succ, List.set_cons_zero]; rfl)) ?_
    refine zQ.s (fun h => zs_iload_n (i := 1) o dX1_reasonNow_27 rfl rfl) ?_
    refine zQ.s (fun h => zs_bipush (v := 101) o dX1_reasonNow_28 (by decide)) ?_
    refine zQ.b (fun h => zs_icmp_ne (tgt := 38) o dX1_reasonNow_30 (by decide)) (fun c => ?_) (fun c => ?_)
    · have hm := if_e2 hm c
      refine zQ.s (fun h => zs_iload_n (i := 1) o dX1_reasonNow_38 rfl rfl) ?_
      refine zQ.fg (zl_n (zl_n zl_0)) ?_
      exact hj39 _ _ _ _ (by omega) (by omega) hm
    · have hm := if_e1 hm c
      refine zQ.s (fun h => zs_bipush (v := 100) o dX1_reasonNow_33 (by decide)) ?_
      refine zQ.s (fun h => zs_goto (tgt := 39) o dX1_reasonNow_35 (by decide)) ?_
      refine zQ.fg (zl_n (zl_n zl_0)) ?_
      exact hj39 _ _ _ _ (by omega) (by omega) hm
  · have hm := if_e2 hm c
    refine zQ.s (fun h => zs_bipush (v := 102) o dX1_reasonNow_10 (by decide)) ?_
    refine zh_reti o f dX1_reasonNow_12 rfl (by omega) (by omega) ((so_e hm).trans hR9.symm)

def j_X1_takeInterrupt (h : zH) (p : Nat) (e0 : Nat) (ic : Nat) (cm : Nat) (B : Nat) : Option zH :=
  gd (kd h p 1) <|
  gd (wr h p) <|
  lt (pI h 1 28 p (0 : Int32)) fun S3 =>
  gd (kd S3 p 1) <|
  lt (zT S3 + 1) fun r5 =>
  lt (nw S3 5 1 0) fun S6 =>
  gd (kd S6 p 1) <|
  gd (kd S6 p 1) <|
  gd (nzr r5) <|
  bd (j_X5_init S6 r5 (9 : Int32) (hI S6 1 27 p) (hI S6 1 26 p) 0) fun y10 =>
  gd (kd y10 (hR S3 1 30 p) 10) <|
  bd (j_J2_add y10 (hR S3 1 30 p) r5 e0 cm B) fun y12 =>
  gd (kd y12.1 p 1) <|
  bd (j_X1_throwAll y12.1 p ic) fun y14 =>
  gd (kd y14 p 1) <|
  gd (kd y14 p 1) <|
  gd (kd y14 (hR y14 1 4 p) 2) <|
  bd (j_X2_interrupt y14 (hR y14 1 4 p) (hI y14 1 27 p)) fun y18 =>
  gd (kd y18.1 p 1) <|
  gd (wr y18.1 p) <|
  lt (pI y18.1 1 27 p y18.2) fun S21 =>
  gd (kd S21 p 1) <|
  gd (kd S21 p 1) <|
  gd (wr S21 p) <|
  lt (pI S21 1 17 p (hI S21 1 27 p)) fun S25 =>
  some S25

set_option maxHeartbeats 40000000 in
theorem J_X1_takeInterrupt (G : zG) (h : zH) (p : Nat) (e0 : Nat) (ic : Nat) (cm : Nat) (B : Nat) (h9 : zH) (z_e0 : ("java/util/ArrayList", "DEFAULTCAPACITY_EMPTY_ELEMENTDATA", "[Ljava/lang/Object;", zrf e0) ∈ zGz G) (z_ih : ("java/lang/Integer$IntegerCache", "high", "I", .int 127) ∈ zGz G) (z_ic : ("java/lang/Integer$IntegerCache", "cache", "[Ljava/lang/Integer;", zrf ic) ∈ zGz G) (z_cm : cm = zGm G + 1) (hm : j_X1_takeInterrupt h p e0 ic cm B = some h9) : zJv G yX1_takeInterrupt cX1_takeInterrupt 1 none 7 24 (44 + B) [zrf p] h h9 := by
  refine zCo.st [some (zrf p)] rfl rfl (by simp only [zarg_r, zarg_i, zarg_l, zarg_0]; rfl) (fun X o f0 hin hw0 => ?_)
  have f := f0.e
  have hin : (Xt X).name = "takeInterrupt" := hin
  refine (?_ : zQ (EH h) G X 0 0 0 [some (zrf p)] []) h rfl hw0
  clear hw0
  generalize hR9 : (h9 : zH) = R at hm
  unfold j_X1_takeInterrupt at hm
  refine zQ.s (fun h => zs_aload_n (i := 0) o dX1_takeInterrupt_0 rfl rfl) ?_
  refine zQ.s (fun h => zs_iconst (v := 0) o dX1_takeInterrupt_1 (by decide)) ?_
  obtain ⟨g1, hm⟩ := gd_e hm
  obtain ⟨g2, hm⟩ := gd_e hm
  obtain ⟨S3, e_S3, hm⟩ := lt_e hm
  refine zh_putI o g1 g2 fl_X1_369_1 rfl rfl ⟨rfl, rfl⟩ dX1_takeInterrupt_2 e_S3 ?_
  refine zQ.s (fun h => zs_aload_n (i := 0) o dX1_takeInterrupt_5 rfl rfl) ?_
  obtain ⟨g4, hm⟩ := gd_e hm
  refine zh_getR o g4 fl_X1_107_1 rfl dX1_takeInterrupt_6 ?_
  obtain ⟨r5, e_r5, hm⟩ := lt_e hm
  obtain ⟨S6, e_S6, hm⟩ := lt_e hm
  refine zh_new (N := 4) o nl_X1_400 rfl dX1_takeInterrupt_9 (by omega) (by omega) e_S6 ?_
  refine zQ.nmr e_r5 ?_
  refine zQ.s (fun h => zs_dup o dX1_takeInterrupt_12 (by first | rfl | exact zrf_cat _)) ?_
  refine zQ.s (fun h => zs_bipush (v := 9) o dX1_takeInterrupt_13 (by decide)) ?_
  refine zQ.s (fun h => zs_aload_n (i := 0) o dX1_takeInterrupt_15 rfl rfl) ?_
  obtain ⟨g7, hm⟩ := gd_e hm
  refine zh_getI o g7 fl_X1_402_1 rfl dX1_takeInterrupt_16 ?_
  refine zQ.s (fun h => zs_aload_n (i := 0) o dX1_takeInterrupt_19 rfl rfl) ?_
  obtain ⟨g8, hm⟩ := gd_e hm
  refine zh_getI o g8 fl_X1_153_1 rfl dX1_takeInterrupt_20 ?_
  refine zQ.s (fun h => zs_nul o dX1_takeInterrupt_23) ?_
  obtain ⟨g9, hm⟩ := gd_e hm
  obtain ⟨y10, c_y10, hm⟩ := bd_e hm
  refine zh_Iv o g9 ml_X1_405 (J_X5_init G _ _ _ _ _ _ _  c_y10) dX1_takeInterrupt_24 rfl rfl rfl rfl (by omega) (by omega) ?_
  obtain ⟨g11, hm⟩ := gd_e hm
  obtain ⟨y12, c_y12, hm⟩ := bd_e hm
  refine zh_Fi o g11 ml_X1_198_10 (J_J2_add G _ _ _ _ _ _ _ _ z_e0 z_cm c_y12) dX1_takeInterrupt_27 rfl rfl rfl rfl (by omega) (by omega) ?_
  refine zQ.s (fun h => zs_pop o dX1_takeInterrupt_32 (by first | rfl | exact zrf_cat _)) ?_
  refine zQ.s (fun h => zs_aload_n (i := 0) o dX1_takeInterrupt_33 rfl rfl) ?_
  obtain ⟨g13, hm⟩ := gd_e hm
  obtain ⟨y14, c_y14, hm⟩ := bd_e hm
  refine zh_Vv o g13 ml_X1_408 (J_X1_throwAll G _ _ _ _ z_ih z_ic c_y14) dX1_takeInterrupt_34 rfl rfl rfl rfl (by omega) (by omega) ?_
  refine zQ.s (fun h => zs_aload_n (i := 0) o dX1_takeInterrupt_37 rfl rfl) ?_
  refine zQ.s (fun h => zs_aload_n (i := 0) o dX1_takeInterrupt_38 rfl rfl) ?_
  obtain ⟨g15, hm⟩ := gd_e hm
  refine zh_getR o g15 fl_X1_33_1 rfl dX1_takeInterrupt_39 ?_
  refine zQ.s (fun h => zs_aload_n (i := 0) o dX1_takeInterrupt_42 rfl rfl) ?_
  obtain ⟨g16, hm⟩ := gd_e hm
  refine zh_getI o g16 fl_X1_402_1 rfl dX1_takeInterrupt_43 ?_
  obtain ⟨g17, hm⟩ := gd_e hm
  obtain ⟨y18, c_y18, hm⟩ := bd_e hm
  refine zh_Vi o g17 ml_X1_411 (J_X2_interrupt G _ _ _ _ _  c_y18) dX1_takeInterrupt_46 rfl rfl rfl rfl (by omega) (by omega) ?_
  obtain ⟨g19, hm⟩ := gd_e hm
  obtain ⟨g20, hm⟩ := gd_e hm
  obtain ⟨S21, e_S21, hm⟩ := lt_e hm
  refine zh_putI o g19 g20 fl_X1_402_1 rfl rfl ⟨rfl, rfl⟩ dX1_takeInterrupt_49 e_S21 ?_
  refine zQ.s (fun h => zs_aload_n (i := 0) o dX1_takeInterrupt_52 rfl rfl) ?_
  refine zQ.s (fun h => zs_aload_n (i := 0) o dX1_takeInterrupt_53 rfl rfl) ?_
  obtain ⟨g22, hm⟩ := gd_e hm
  refine zh_getI o g22 fl_X1_402_1 rfl dX1_takeInterrupt_54 ?_
  obtain ⟨g23, hm⟩ := gd_e hm
  obtain ⟨g24, hm⟩ := gd_e hm
  obtain ⟨S25, e_S25, hm⟩ := lt_e hm
  refine zh_putI o g23 g24 fl_X1_294_1 rfl rfl ⟨rfl, rfl⟩ dX1_takeInterrupt_57 e_S25 ?_
  refine zh_retv o f dX1_takeInterrupt_60 (by omega) (by omega) ((so_e hm).trans hR9.symm)

def j_X1_takeTrap_j62 (h : zH) (e0 : Nat) (ic : Nat) (cm : Nat) (B : Nat) (x0 : Nat) (s1 : Int32) (s0 : Nat) : Option zH :=
  gd (b01 s1) <|
  gd (kd h s0 1) <|
  gd (wr h s0) <|
  lt (pI h 1 29 s0 s1) fun S4 =>
  gd (kd S4 x0 1) <|
  gd (kd S4 x0 1) <|
  gd (wr S4 x0) <|
  lt (pI S4 1 17 x0 (hI S4 1 27 x0)) fun S8 =>
  some S8
def j_X1_takeTrap (h : zH) (p : Nat) (a1 : Nat) (a2 : Int32) (e0 : Nat) (ic : Nat) (cm : Nat) (B : Nat) : Option zH :=
  gd (kd h p 1) <|
  lt (zT h + 1) fun r2 =>
  lt (nw h 5 1 0) fun S3 =>
  gd (kd S3 a1 8) <|
  gd (kd S3 p 1) <|
  gd (nzr r2) <|
  bd (j_X5_init S3 r2 a2 (hI S3 8 1 a1) (hI S3 1 26 p) a1) fun y7 =>
  gd (kd y7 (hR h 1 30 p) 10) <|
  bd (j_J2_add y7 (hR h 1 30 p) r2 e0 cm B) fun y9 =>
  gd (kd y9.1 p 1) <|
  bd (j_X1_throwAll y9.1 p ic) fun y11 =>
  gd (kd y11 p 1) <|
  gd (kd y11 a1 8) <|
  gd (kd y11 (hR y11 1 4 p) 2) <|
  bd (j_X2_trap y11 (hR y11 1 4 p) ((hI y11 8 1 a1) + (1 : Int32))) fun y15 =>
  gd (kd y15.1 p 1) <|
  gd (wr y15.1 p) <|
  lt (pI y15.1 1 27 p y15.2) fun S18 =>
  gd (kd S18 p 1) <|
  if (hI S18 1 27 p) = (-1 : Int32) then
    j_X1_takeTrap_j62 S18 e0 ic cm B p (1 : Int32) p
  else
    j_X1_takeTrap_j62 S18 e0 ic cm B p (0 : Int32) p

set_option maxHeartbeats 40000000 in
theorem J_X1_takeTrap (G : zG) (h : zH) (p : Nat) (a1 : Nat) (a2 : Int32) (e0 : Nat) (ic : Nat) (cm : Nat) (B : Nat) (h9 : zH) (z_e0 : ("java/util/ArrayList", "DEFAULTCAPACITY_EMPTY_ELEMENTDATA", "[Ljava/lang/Object;", zrf e0) ∈ zGz G) (z_ih : ("java/lang/Integer$IntegerCache", "high", "I", .int 127) ∈ zGz G) (z_ic : ("java/lang/Integer$IntegerCache", "cache", "[Ljava/lang/Integer;", zrf ic) ∈ zGz G) (z_cm : cm = zGm G + 1) (hm : j_X1_takeTrap h p a1 a2 e0 ic cm B = some h9) : zJv G yX1_takeTrap cX1_takeTrap 3 none 7 24 (44 + B) [zrf p, zrf a1, .int a2] h h9 := by
  refine zCo.st [some (zrf p), some (zrf a1), some (.int a2)] rfl rfl (by simp only [zarg_r, zarg_i, zarg_l, zarg_0]; rfl) (fun X o f0 hin hw0 => ?_)
  have f := f0.e
  have hin : (Xt X).name = "takeTrap" := hin
  refine (?_ : zQ (EH h) G X 0 0 0 [some (zrf p), some (zrf a1), some (.int a2)] []) h rfl hw0
  clear hw0
  generalize hR9 : (h9 : zH) = R at hm
  have hj62 : ∀ (h : zH) (x0 : Nat) (s1 : Int32) (s0 : Nat) (cl sl : Nat), cl + (0) ≤ 24 → sl + (0) ≤ (44 + B) → j_X1_takeTrap_j62 h e0 ic cm B x0 s1 s0 = some R → zQ (EH h) G X cl sl 62 [some (zrf x0), none, none] [.int s1, zrf s0] := by
    intro h x0 s1 s0 cl sl hc hs hm
    unfold j_X1_takeTrap_j62 at hm
    obtain ⟨g1, hm⟩ := gd_e hm
    obtain ⟨g2, hm⟩ := gd_e hm
    obtain ⟨g3, hm⟩ := gd_e hm
    obtain ⟨S4, e_S4, hm⟩ := lt_e hm
    refine zh_putI o g2 g3 fl_X1_416_1 rfl rfl (b01_e g1) dX1_takeTrap_62 e_S4 ?_
    refine zQ.s (fun h => zs_aload_n (i := 0) o dX1_takeTrap_65 rfl rfl) ?_
    refine zQ.s (fun h => zs_aload_n (i := 0) o dX1_takeTrap_66 rfl rfl) ?_
    obtain ⟨g5, hm⟩ := gd_e hm
    refine zh_getI o g5 fl_X1_402_1 rfl dX1_takeTrap_67 ?_
    obtain ⟨g6, hm⟩ := gd_e hm
    obtain ⟨g7, hm⟩ := gd_e hm
    obtain ⟨S8, e_S8, hm⟩ := lt_e hm
    refine zh_putI o g6 g7 fl_X1_294_1 rfl rfl ⟨rfl, rfl⟩ dX1_takeTrap_70 e_S8 ?_
    refine zh_retv o f dX1_takeTrap_73 (by omega) (by omega) ((so_e hm).trans hR9.symm)
  unfold j_X1_takeTrap at hm
  refine zQ.s (fun h => zs_aload_n (i := 0) o dX1_takeTrap_0 rfl rfl) ?_
  obtain ⟨g1, hm⟩ := gd_e hm
  refine zh_getR o g1 fl_X1_107_1 rfl dX1_takeTrap_1 ?_
  obtain ⟨r2, e_r2, hm⟩ := lt_e hm
  obtain ⟨S3, e_S3, hm⟩ := lt_e hm
  refine zh_new (N := 4) o nl_X1_400 rfl dX1_takeTrap_4 (by omega) (by omega) e_S3 ?_
  refine zQ.nmr e_r2 ?_
  refine zQ.s (fun h => zs_dup o dX1_takeTrap_7 (by first | rfl | exact zrf_cat _)) ?_
  refine zQ.s (fun h => zs_iload_n (i := 2) o dX1_takeTrap_8 rfl rfl) ?_
  refine zQ.s (fun h => zs_aload_n (i := 1) o dX1_takeTrap_9 rfl rfl) ?_
  obtain ⟨g4, hm⟩ := gd_e hm
  refine zh_getI o g4 fl_X1_284_8 rfl dX1_takeTrap_10 ?_
  refine zQ.s (fun h => zs_aload_n (i := 0) o dX1_takeTrap_13 rfl rfl) ?_
  obtain ⟨g5, hm⟩ := gd_e hm
  refine zh_getI o g5 fl_X1_153_1 rfl dX1_takeTrap_14 ?_
  refine zQ.s (fun h => zs_aload_n (i := 1) o dX1_takeTrap_17 rfl rfl) ?_
  obtain ⟨g6, hm⟩ := gd_e hm
  obtain ⟨y7, c_y7, hm⟩ := bd_e hm
  refine zh_Iv o g6 ml_X1_405 (J_X5_init G _ _ _ _ _ _ _  c_y7) dX1_takeTrap_18 rfl rfl rfl rfl (by omega) (by omega) ?_
  obtain ⟨g8, hm⟩ := gd_e hm
  obtain ⟨y9, c_y9, hm⟩ := bd_e hm
  refine zh_Fi o g8 ml_X1_198_10 (J_J2_add G _ _ _ _ _ _ _ _ z_e0 z_cm c_y9) dX1_takeTrap_21 rfl rfl rfl rfl (by omega) (by omega) ?_
  refine zQ.s (fun h => zs_pop o dX1_takeTrap_26 (by first | rfl | exact zrf_cat _)) ?_
  refine zQ.s (fun h => zs_aload_n (i := 0) o dX1_takeTrap_27 rfl rfl) ?_
  obtain ⟨g10, hm⟩ := gd_e hm
  obtain ⟨y11, c_y11, hm⟩ := bd_e hm
  refine zh_Vv o g10 ml_X1_408 (J_X1_throwAll G _ _ _ _ z_ih z_ic c_y11) dX1_takeTrap_28 rfl rfl rfl rfl (by omega) (by omega) ?_
  refine zQ.s (fun h => zs_aload_n (i := 0) o dX1_takeTrap_31 rfl rfl) ?_
  refine zQ.s (fun h => zs_aload_n (i := 0) o dX1_takeTrap_32 rfl rfl) ?_
  obtain ⟨g12, hm⟩ := gd_e hm
  refine zh_getR o g12 fl_X1_33_1 rfl dX1_takeTrap_33 ?_
  refine zQ.s (fun h => zs_aload_n (i := 1) o dX1_takeTrap_36 rfl rfl) ?_
  obtain ⟨g13, hm⟩ := gd_e hm
  refine zh_getI o g13 fl_X1_284_8 rfl dX1_takeTrap_37 ?_
  refine zQ.s (fun h => zs_iconst (v := 1) o dX1_takeTrap_40 (by decide)) ?_
  refine zQ.s (fun h => zs_iadd o dX1_takeTrap_41) ?_
  obtain ⟨g14, hm⟩ := gd_e hm
  obtain ⟨y15, c_y15, hm⟩ := bd_e hm
  refine zh_Vi o g14 ml_X1_414 (J_X2_trap G _ _ _ _ _  c_y15) dX1_takeTrap_42 rfl rfl rfl rfl (by omega) (by omega) ?_
  obtain ⟨g16, hm⟩ := gd_e hm
  obtain ⟨g17, hm⟩ := gd_e hm
  obtain ⟨S18, e_S18, hm⟩ := lt_e hm
  refine zh_putI o g16 g17 fl_X1_402_1 rfl rfl ⟨rfl, rfl⟩ dX1_takeTrap_45 e_S18 ?_
  refine zQ.s (fun h => zs_aload_n (i := 0) o dX1_takeTrap_48 rfl rfl) ?_
  refine zQ.s (fun h => zs_aload_n (i := 0) o dX1_takeTrap_49 rfl rfl) ?_
  obtain ⟨g19, hm⟩ := gd_e hm
  refine zh_getI o g19 fl_X1_402_1 rfl dX1_takeTrap_50 ?_
  refine zQ.s (fun h => zs_iconst (v := -1) o dX1_takeTrap_53 (by decide)) ?_
  refine zQ.b (fun h => zs_icmp_ne (tgt := 61) o dX1_takeTrap_54 (by decide)) (fun c => ?_) (fun c => ?_)
  · have hm := if_e2 hm c
    refine zQ.s (fun h => zs_iconst (v := 0) o dX1_takeTrap_61 (by decide)) ?_
    refine zQ.fg (zl_s (zl_n (zl_n zl_0))) ?_
    exact hj62 _ _ _ _ _ _ (by omega) (by omega) hm
  · have hm := if_e1 hm c
    refine zQ.s (fun h => zs_iconst (v := 1) o dX1_takeTrap_57 (by decide)) ?_
    refine zQ.s (fun h => zs_goto (tgt := 62) o dX1_takeTrap_58 (by decide)) ?_
    refine zQ.fg (zl_s (zl_n (zl_n zl_0))) ?_
    exact hj62 _ _ _ _ _ _ (by omega) (by omega) hm

def j_X1_learn_j110 (h : zH) : Option zH :=
  some h
def j_X1_learn_j81 (h : zH) (s2 : Int32) (s1 : Int32) (s0 : Nat) : Option zH :=
  gd (kd h s0 201) <|
  gd (wr h s0) <|
  gd (inb s1 (zN h s0)) <|
  lt (pI h 201 (ix s1) s0 s2) fun S4 =>
  j_X1_learn_j110 S4
def j_X1_learn (h : zH) (p : Nat) (a1 : Nat) : Option zH :=
  gd (kd h a1 8) <|
  lt (hR h 8 0 a1) fun r2 =>
  gd (kd h r2 4) <|
  bd (j_X4_isCondition h r2) fun y4 =>
  if y4.2 = (0 : Int32) then
    gd (kd y4.1 r2 4) <|
    if (hI y4.1 4 0 r2) = (17 : Int32) then
      gd (kd y4.1 p 1) <|
      gd (kd y4.1 a1 8) <|
      gd (kd y4.1 a1 8) <|
      gd (kd y4.1 (hR y4.1 1 21 p) 201) <|
      gd (wr y4.1 (hR y4.1 1 21 p)) <|
      gd (inb (irm (hI y4.1 8 1 a1) (8 : Int32)) (zN y4.1 (hR y4.1 1 21 p))) <|
      lt (pI y4.1 201 (ix (irm (hI y4.1 8 1 a1) (8 : Int32))) (hR y4.1 1 21 p) (hI y4.1 8 19 a1)) fun S12 =>
      j_X1_learn_j110 S12
    else
      j_X1_learn_j110 y4.1
  else
    gd (kd y4.1 a1 8) <|
    lt (irm (hI y4.1 8 1 a1) (16 : Int32)) fun v14 =>
    gd (kd y4.1 p 1) <|
    gd (kd y4.1 a1 8) <|
    gd (kd y4.1 (hR y4.1 1 9 p) 201) <|
    gd (inb (hI y4.1 8 10 a1) (zN y4.1 (hR y4.1 1 9 p))) <|
    gd (kd y4.1 p 1) <|
    gd (kd y4.1 a1 8) <|
    gd (kd y4.1 (hR y4.1 1 9 p) 201) <|
    gd (inb (hI y4.1 8 11 a1) (zN y4.1 (hR y4.1 1 9 p))) <|
    gd (kd y4.1 r2 4) <|
    bd (j_X4_isFulfilled y4.1 r2 (hI y4.1 201 (ix (hI y4.1 8 10 a1)) (hR y4.1 1 9 p)) (hI y4.1 201 (ix (hI y4.1 8 11 a1)) (hR y4.1 1 9 p))) fun y24 =>
    gd (kd y24.1 p 1) <|
    if y24.2 = (0 : Int32) then
      gd (kd y24.1 p 1) <|
      gd (kd y24.1 (hR y24.1 1 20 p) 201) <|
      gd (inb v14 (zN y24.1 (hR y24.1 1 20 p))) <|
      lt (imx (0 : Int32) ((hI y24.1 201 (ix v14) (hR y24.1 1 20 p)) - (1 : Int32))) fun v29 =>
      j_X1_learn_j81 y24.1 v29 v14 (hR y24.1 1 20 p)
    else
      gd (kd y24.1 p 1) <|
      gd (kd y24.1 (hR y24.1 1 20 p) 201) <|
      gd (inb v14 (zN y24.1 (hR y24.1 1 20 p))) <|
      lt (imn (3 : Int32) ((hI y24.1 201 (ix v14) (hR y24.1 1 20 p)) + (1 : Int32))) fun v33 =>
      j_X1_learn_j81 y24.1 v33 v14 (hR y24.1 1 20 p)

set_option maxHeartbeats 40000000 in
theorem J_X1_learn (G : zG) (h : zH) (p : Nat) (a1 : Nat) (h9 : zH) (hm : j_X1_learn h p a1 = some h9) : zJv G yX1_learn cX1_learn 5 none 1 0 0 [zrf p, zrf a1] h h9 := by
  refine zCo.st [some (zrf p), some (zrf a1), none, none, none] rfl rfl (by simp only [zarg_r, zarg_i, zarg_l, zarg_0]; rfl) (fun X o f0 hin hw0 => ?_)
  have f := f0.e
  have hin : (Xt X).name = "learn" := hin
  refine (?_ : zQ (EH h) G X 0 0 0 [some (zrf p), some (zrf a1), none, none, none] []) h rfl hw0
  clear hw0
  generalize hR9 : (h9 : zH) = R at hm
  have hj110 : ∀ (h : zH) (cl sl : Nat), cl + (0) ≤ 0 → sl + (0) ≤ 0 → j_X1_learn_j110 h = some R → zQ (EH h) G X cl sl 110 [none, none, none, none, none] [] := by
    intro h cl sl hc hs hm
    unfold j_X1_learn_j110 at hm
    refine zh_retv o f dX1_learn_110 (by omega) (by omega) ((so_e hm).trans hR9.symm)
  have hj81 : ∀ (h : zH) (s2 : Int32) (s1 : Int32) (s0 : Nat) (cl sl : Nat), cl + (0) ≤ 0 → sl + (0) ≤ 0 → j_X1_learn_j81 h s2 s1 s0 = some R → zQ (EH h) G X cl sl 81 [none, none, none, none, none] [.int s2, .int s1, zrf s0] := by
    intro h s2 s1 s0 cl sl hc hs hm
    unfold j_X1_learn_j81 at hm
    obtain ⟨g1, hm⟩ := gd_e hm
    obtain ⟨g2, hm⟩ := gd_e hm
    obtain ⟨g3, hm⟩ := gd_e hm
    obtain ⟨S4, e_S4, hm⟩ := lt_e hm
    refine zh_iast o g1 g2 g3 dX1_learn_81 e_S4 ?_
    refine zQ.s (fun h => zs_goto (tgt := 110) o dX1_learn_82 (by decide)) ?_
    exact hj110 _ _ _ (by omega) (by omega) hm
  unfold j_X1_learn at hm
  refine zQ.s (fun h => zs_aload_n (i := 1) o dX1_learn_0 rfl rfl) ?_
  obtain ⟨g1, hm⟩ := gd_e hm
  refine zh_getR o g1 fl_X1_220_8 rfl dX1_learn_1 ?_
  obtain ⟨r2, e_r2, hm⟩ := lt_e hm
  refine zQ.nmr e_r2 ?_
  refine zQ.s (fun h => zs_astore_n (i := 2) o dX1_learn_4 rfl (by decide) (Or.inr (zc2_ref rfl)) (by simp only [List.set_cons_succ, List.set_cons_zero]; rfl)) ?_
  refine zQ.s (fun h => zs_aload_n (i := 2) o dX1_learn_5 rfl rfl) ?_
  obtain ⟨g3, hm⟩ := gd_e hm
  obtain ⟨y4, c_y4, hm⟩ := bd_e hm
  refine zh_Vi o g3 ml_X1_431 (J_X4_isCondition G _ _ _ _  c_y4) dX1_learn_6 rfl rfl rfl rfl (by omega) (by omega) ?_
  refine zQ.b (fun h => zs_if_eq (tgt := 85) o dX1_learn_9 (by decide)) (fun c => ?_) (fun c => ?_)
  · have hm := if_e1 hm c
    refine zQ.s (fun h => zs_aload_n (i := 2) o dX1_learn_85 rfl rfl) ?_
    obtain ⟨g5, hm⟩ := gd_e hm
    refine zh_getI o g5 fl_X1_247_4 rfl dX1_learn_86 ?_
    refine zQ.s (fun h => zs_bipush (v := 17) o dX1_learn_89 (by decide)) ?_
    refine zQ.b (fun h => zs_icmp_ne (tgt := 110) o dX1_learn_91 (by decide)) (fun c => ?_) (fun c => ?_)
    · have hm := if_e2 hm c
      refine zQ.fg (zl_n (zl_n (zl_n (zl_n (zl_n zl_0))))) ?_
      exact hj110 _ _ _ (by omega) (by omega) hm
    · have hm := if_e1 hm c
      refine zQ.s (fun h => zs_aload_n (i := 0) o dX1_learn_94 rfl rfl) ?_
      obtain ⟨g6, hm⟩ := gd_e hm
      refine zh_getR o g6 fl_X1_92_1 rfl dX1_learn_95 ?_
      refine zQ.s (fun h => zs_aload_n (i := 1) o dX1_learn_98 rfl rfl) ?_
      obtain ⟨g7, hm⟩ := gd_e hm
      refine zh_getI o g7 fl_X1_284_8 rfl dX1_learn_99 ?_
      refine zQ.s (fun h => zs_bipush (v := 8) o dX1_learn_102 (by decide)) ?_
      refine zQ.s (fun h => zs_irem o dX1_learn_104 (by decide)) ?_
      refine zQ.s (fun h => zs_aload_n (i := 1) o dX1_learn_105 rfl rfl) ?_
      obtain ⟨g8, hm⟩ := gd_e hm
      refine zh_getI o g8 fl_X1_310_8 rfl dX1_learn_106 ?_
      obtain ⟨g9, hm⟩ := gd_e hm
      obtain ⟨g10, hm⟩ := gd_e hm
      obtain ⟨g11, hm⟩ := gd_e hm
      obtain ⟨S12, e_S12, hm⟩ := lt_e hm
      refine zh_iast o g9 g10 g11 dX1_learn_109 e_S12 ?_
      refine zQ.fg (zl_n (zl_n (zl_n (zl_n (zl_n zl_0))))) ?_
      exact hj110 _ _ _ (by omega) (by omega) hm
  · have hm := if_e2 hm c
    refine zQ.s (fun h => zs_aload_n (i := 1) o dX1_learn_12 rfl rfl) ?_
    obtain ⟨g13, hm⟩ := gd_e hm
    refine zh_getI o g13 fl_X1_284_8 rfl dX1_learn_13 ?_
    refine zQ.s (fun h => zs_bipush (v := 16) o dX1_learn_16 (by decide)) ?_
    refine zQ.s (fun h => zs_irem o dX1_learn_18 (by decide)) ?_
    obtain ⟨v14, e_v14, hm⟩ := lt_e hm
    refine zQ.nmi e_v14 ?_
    refine zQ.s (fun h => zs_istore_n (i := 3) o dX1_learn_19 rfl (by decide) (Or.inr (zc2_ref rfl)) (by simp only [List.set_cons_succ, List.set_cons_zero]; rfl)) ?_
    refine zQ.s (fun h => zs_aload_n (i := 2) o dX1_learn_20 rfl rfl) ?_
    refine zQ.s (fun h => zs_aload_n (i := 0) o dX1_learn_21 rfl rfl) ?_
    obtain ⟨g15, hm⟩ := gd_e hm
    refine zh_getR o g15 fl_X1_50_1 rfl dX1_learn_22 ?_
    refine zQ.s (fun h => zs_aload_n (i := 1) o dX1_learn_25 rfl rfl) ?_
    obtain ⟨g16, hm⟩ := gd_e hm
    refine zh_getI o g16 fl_X1_270_8 rfl dX1_learn_26 ?_
    obtain ⟨g17, hm⟩ := gd_e hm
    obtain ⟨g18, hm⟩ := gd_e hm
    refine zh_iald o g17 g18 dX1_learn_29 ?_
    refine zQ.s (fun h => zs_aload_n (i := 0) o dX1_learn_30 rfl rfl) ?_
    obtain ⟨g19, hm⟩ := gd_e hm
    refine zh_getR o g19 fl_X1_50_1 rfl dX1_learn_31 ?_
    refine zQ.s (fun h => zs_aload_n (i := 1) o dX1_learn_34 rfl rfl) ?_
    obtain ⟨g20, hm⟩ := gd_e hm
    refine zh_getI o g20 fl_X1_244_8 rfl dX1_learn_35 ?_
    obtain ⟨g21, hm⟩ := gd_e hm
    obtain ⟨g22, hm⟩ := gd_e hm
    refine zh_iald o g21 g22 dX1_learn_38 ?_
    obtain ⟨g23, hm⟩ := gd_e hm
    obtain ⟨y24, c_y24, hm⟩ := bd_e hm
    refine zh_Vi o g23 ml_X1_312 (J_X4_isFulfilled G _ _ _ _ _ _  c_y24) dX1_learn_39 rfl rfl rfl rfl (by omega) (by omega) ?_
    refine zQ.s (fun h => zs_istore (i := 4) o dX1_learn_42 (by decide) (Or.inr rfl) (by simp only [List.set_cons_succ, List.set_cons_zero]; rfl)) ?_
    refine zQ.s (fun h => zs_aload_n (i := 0) o dX1_learn_44 rfl rfl) ?_
    obtain ⟨g25, hm⟩ := gd_e hm
    refine zh_getR o g25 fl_X1_89_1 rfl dX1_learn_45 ?_
    refine zQ.s (fun h => zs_iload_n (i := 3) o dX1_learn_48 rfl rfl) ?_
    refine zQ.s (fun h => zs_iload (i := 4) o dX1_learn_49 rfl) ?_
    refine zQ.b (fun h => zs_if_eq (tgt := 69) o dX1_learn_51 (by decide)) (fun c => ?_) (fun c => ?_)
    · have hm := if_e1 hm c
      refine zQ.s (fun h => zs_iconst (v := 0) o dX1_learn_69 (by decide)) ?_
      refine zQ.s (fun h => zs_aload_n (i := 0) o dX1_learn_70 rfl rfl) ?_
      obtain ⟨g26, hm⟩ := gd_e hm
      refine zh_getR o g26 fl_X1_89_1 rfl dX1_learn_71 ?_
      refine zQ.s (fun h => zs_iload_n (i := 3) o dX1_learn_74 rfl rfl) ?_
      obtain ⟨g27, hm⟩ := gd_e hm
      obtain ⟨g28, hm⟩ := gd_e hm
      refine zh_iald o g27 g28 dX1_learn_75 ?_
      refine zQ.s (fun h => zs_iconst (v := 1) o dX1_learn_76 (by decide)) ?_
      refine zQ.s (fun h => zs_isub o dX1_learn_77) ?_
      refine zQ.s (fun h => zs_mmax o q1988 q403 q127 q404 rfl rfl (by omega) (by omega) dX1_learn_78) ?_
      obtain ⟨v29, e_v29, hm⟩ := lt_e hm
      refine zQ.nmi e_v29 ?_
      refine zQ.fg (zl_n (zl_n (zl_n (zl_n (zl_n zl_0))))) ?_
      exact hj81 _ _ _ _ _ _ (by omega) (by omega) hm
    · have hm := if_e2 hm c
      refine zQ.s (fun h => zs_iconst (v := 3) o dX1_learn_54 (by decide)) ?_
      refine zQ.s (fun h => zs_aload_n (i := 0) o dX1_learn_55 rfl rfl) ?_
      obtain ⟨g30, hm⟩ := gd_e hm
      refine zh_getR o g30 fl_X1_89_1 rfl dX1_learn_56 ?_
      refine zQ.s (fun h => zs_iload_n (i := 3) o dX1_learn_59 rfl rfl) ?_
      obtain ⟨g31, hm⟩ := gd_e hm
      obtain ⟨g32, hm⟩ := gd_e hm
      refine zh_iald o g31 g32 dX1_learn_60 ?_
      refine zQ.s (fun h => zs_iconst (v := 1) o dX1_learn_61 (by decide)) ?_
      refine zQ.s (fun h => zs_iadd o dX1_learn_62) ?_
      refine zQ.s (fun h => zs_mmin o q1987 q421 q127 q422 rfl rfl (by omega) (by omega) dX1_learn_63) ?_
      obtain ⟨v33, e_v33, hm⟩ := lt_e hm
      refine zQ.nmi e_v33 ?_
      refine zQ.s (fun h => zs_goto (tgt := 81) o dX1_learn_66 (by decide)) ?_
      refine zQ.fg (zl_n (zl_n (zl_n (zl_n (zl_n zl_0))))) ?_
      exact hj81 _ _ _ _ _ _ (by omega) (by omega) hm

def j_X1_retire_j174 (h : zH) (e0 : Nat) (ic : Nat) (cm : Nat) (B : Nat) (s1 : Int32) (s0 : Nat) : Option zH :=
  gd (b01 s1) <|
  gd (kd h s0 1) <|
  gd (wr h s0) <|
  lt (pI h 1 29 s0 s1) fun S4 =>
  some S4
def j_X1_retire_j159 (h : zH) (e0 : Nat) (ic : Nat) (cm : Nat) (B : Nat) (x0 : Nat) (x2 : Nat) : Option zH :=
  gd (kd h x2 4) <|
  if (hI h 4 0 x2) = (18 : Int32) then
    j_X1_retire_j174 h e0 ic cm B (1 : Int32) x0
  else
    j_X1_retire_j174 h e0 ic cm B (0 : Int32) x0
def j_X1_retire_j118 (h : zH) (e0 : Nat) (ic : Nat) (cm : Nat) (B : Nat) (x0 : Nat) (x1 : Nat) (x2 : Nat) : Option zH :=
  gd (kd h x0 1) <|
  bd (j_X1_learn h x0 x1) fun y2 =>
  gd (kd y2 x1 8) <|
  gd (kd y2 x0 1) <|
  gd (wr y2 x0) <|
  lt (pI y2 1 27 x0 (hI y2 8 19 x1)) fun S6 =>
  gd (kd S6 x2 4) <|
  if (hI S6 4 0 x2) = (21 : Int32) then
    gd (kd S6 x0 1) <|
    gd (kd S6 (hR S6 1 4 x0) 2) <|
    bd (j_X2_goBack S6 (hR S6 1 4 x0)) fun y10 =>
    gd (kd y10.1 x0 1) <|
    gd (wr y10.1 x0) <|
    lt (pI y10.1 1 27 x0 y10.2) fun S13 =>
    gd (kd S13 x0 1) <|
    gd (kd S13 x0 1) <|
    gd (wr S13 x0) <|
    lt (pI S13 1 17 x0 (hI S13 1 27 x0)) fun S17 =>
    j_X1_retire_j159 S17 e0 ic cm B x0 x2
  else
    j_X1_retire_j159 S6 e0 ic cm B x0 x2
def j_X1_retire_j80 (h : zH) (e0 : Nat) (ic : Nat) (cm : Nat) (B : Nat) (x0 : Nat) (x1 : Nat) (x2 : Nat) : Option zH :=
  gd (kd h x2 4) <|
  bd (j_X4_isStore h x2) fun y2 =>
  if y2.2 = (0 : Int32) then
    j_X1_retire_j118 y2.1 e0 ic cm B x0 x1 x2
  else
    gd (kd y2.1 x0 1) <|
    gd (kd y2.1 x1 8) <|
    gd (kd y2.1 x0 1) <|
    gd (kd y2.1 x1 8) <|
    gd (kd y2.1 (hR y2.1 1 3 x0) 201) <|
    gd (inb (hI y2.1 8 17 x1) (zN y2.1 (hR y2.1 1 3 x0))) <|
    gd (kd y2.1 x0 1) <|
    gd (kd y2.1 x1 8) <|
    gd (kd y2.1 (hR y2.1 1 9 x0) 201) <|
    gd (inb (hI y2.1 8 11 x1) (zN y2.1 (hR y2.1 1 9 x0))) <|
    gd (kd y2.1 x2 4) <|
    bd (j_X4_stored y2.1 x2 (hI y2.1 201 (ix (hI y2.1 8 17 x1)) (hR y2.1 1 3 x0)) (hI y2.1 201 (ix (hI y2.1 8 11 x1)) (hR y2.1 1 9 x0))) fun y14 =>
    gd (kd y14.1 (hR y2.1 1 3 x0) 201) <|
    gd (wr y14.1 (hR y2.1 1 3 x0)) <|
    gd (inb (hI y2.1 8 17 x1) (zN y14.1 (hR y2.1 1 3 x0))) <|
    lt (pI y14.1 201 (ix (hI y2.1 8 17 x1)) (hR y2.1 1 3 x0) y14.2) fun S18 =>
    j_X1_retire_j118 S18 e0 ic cm B x0 x1 x2
def j_X1_retire (h : zH) (p : Nat) (a1 : Nat) (e0 : Nat) (ic : Nat) (cm : Nat) (B : Nat) : Option zH :=
  gd (kd h a1 8) <|
  lt (hR h 8 0 a1) fun r2 =>
  gd (kd h p 1) <|
  gd (kd h (hR h 1 15 p) 13) <|
  bd (j_J6_removeFirst h (hR h 1 15 p)) fun y5 =>
  gd (kd y5.1 p 1) <|
  lt (zT y5.1 + 1) fun r7 =>
  lt (nw y5.1 5 1 0) fun S8 =>
  gd (kd S8 a1 8) <|
  gd (kd S8 p 1) <|
  gd (nzr r7) <|
  bd (j_X5_init S8 r7 (0 : Int32) (hI S8 8 1 a1) (hI S8 1 26 p) a1) fun y12 =>
  gd (kd y12 (hR y5.1 1 30 p) 10) <|
  bd (j_J2_add y12 (hR y5.1 1 30 p) r7 e0 cm B) fun y14 =>
  gd (kd y14.1 a1 8) <|
  if (hI y14.1 8 12 a1) = (-1 : Int32) then
    j_X1_retire_j80 y14.1 e0 ic cm B p a1 r2
  else
    gd (kd y14.1 p 1) <|
    gd (kd y14.1 p 1) <|
    gd (kd y14.1 r2 4) <|
    gd (kd y14.1 (hR y14.1 1 12 p) 201) <|
    gd (inb (hI y14.1 4 1 r2) (zN y14.1 (hR y14.1 1 12 p))) <|
    bd (j_J21_valueOf y14.1 (hI y14.1 201 (ix (hI y14.1 4 1 r2)) (hR y14.1 1 12 p)) ic) fun y21 =>
    gd (kd y21.1 (hR y14.1 1 13 p) 12) <|
    bd (j_J4_addLast y21.1 (hR y14.1 1 13 p) y21.2) fun y23 =>
    gd (kd y23 p 1) <|
    gd (kd y23 r2 4) <|
    gd (kd y23 a1 8) <|
    gd (kd y23 (hR y23 1 12 p) 201) <|
    gd (wr y23 (hR y23 1 12 p)) <|
    gd (inb (hI y23 4 1 r2) (zN y23 (hR y23 1 12 p))) <|
    lt (pI y23 201 (ix (hI y23 4 1 r2)) (hR y23 1 12 p) (hI y23 8 12 a1)) fun S30 =>
    j_X1_retire_j80 S30 e0 ic cm B p a1 r2

set_option maxHeartbeats 40000000 in
theorem J_X1_retire (G : zG) (h : zH) (p : Nat) (a1 : Nat) (e0 : Nat) (ic : Nat) (cm : Nat) (B : Nat) (h9 : zH) (z_e0 : ("java/util/ArrayList", "DEFAULTCAPACITY_EMPTY_ELEMENTDATA", "[Ljava/lang/Object;", zrf e0) ∈ zGz G) (z_ih : ("java/lang/Integer$IntegerCache", "high", "I", .int 127) ∈ zGz G) (z_ic : ("java/lang/Integer$IntegerCache", "cache", "[Ljava/lang/Integer;", zrf ic) ∈ zGz G) (z_cm : cm = zGm G + 1) (hm : j_X1_retire h p a1 e0 ic cm B = some h9) : zJv G yX1_retire cX1_retire 3 none 7 3 (15 + B) [zrf p, zrf a1] h h9 := by
  refine zCo.st [some (zrf p), some (zrf a1), none] rfl rfl (by simp only [zarg_r, zarg_i, zarg_l, zarg_0]; rfl) (fun X o f0 hin hw0 => ?_)
  have f := f0.e
  have hin : (Xt X).name = "retire" := hin
  refine (?_ : zQ (EH h) G X 0 0 0 [some (zrf p), some (zrf a1), none] []) h rfl hw0
  clear hw0
  generalize hR9 : (h9 : zH) = R at hm
  have hj174 : ∀ (h : zH) (s1 : Int32) (s0 : Nat) (cl sl : Nat), cl + (0) ≤ 3 → sl + (0) ≤ (15 + B) → j_X1_retire_j174 h e0 ic cm B s1 s0 = some R → zQ (EH h) G X cl sl 174 [none, none, none] [.int s1, zrf s0] := by
    intro h s1 s0 cl sl hc hs hm
    unfold j_X1_retire_j174 at hm
    obtain ⟨g1, hm⟩ := gd_e hm
    obtain ⟨g2, hm⟩ := gd_e hm
    obtain ⟨g3, hm⟩ := gd_e hm
    obtain ⟨S4, e_S4, hm⟩ := lt_e hm
    refine zh_putI o g2 g3 fl_X1_416_1 rfl rfl (b01_e g1) dX1_retire_174 e_S4 ?_
    refine zh_retv o f dX1_retire_177 (by omega) (by omega) ((so_e hm).trans hR9.symm)
  have hj159 : ∀ (h : zH) (x0 : Nat) (x2 : Nat) (cl sl : Nat), cl + (0) ≤ 3 → sl + (0) ≤ (15 + B) → j_X1_retire_j159 h e0 ic cm B x0 x2 = some R → zQ (EH h) G X cl sl 159 [some (zrf x0), none, some (zrf x2)] [] := by
    intro h x0 x2 cl sl hc hs hm
    unfold j_X1_retire_j159 at hm
    refine zQ.s (fun h => zs_aload_n (i := 0) o dX1_retire_159 rfl rfl) ?_
    refine zQ.s (fun h => zs_aload_n (i := 2) o dX1_retire_160 rfl rfl) ?_
    obtain ⟨g1, hm⟩ := gd_e hm
    refine zh_getI o g1 fl_X1_247_4 rfl dX1_retire_161 ?_
    refine zQ.s (fun h => zs_bipush (v := 18) o dX1_retire_164 (by decide)) ?_
    refine zQ.b (fun h => zs_icmp_ne (tgt := 173) o dX1_retire_166 (by decide)) (fun c => ?_) (fun c => ?_)
    · have hm := if_e2 hm c
      refine zQ.s (fun h => zs_iconst (v := 0) o dX1_retire_173 (by decide)) ?_
      refine zQ.fg (zl_n (zl_n (zl_n zl_0))) ?_
      exact hj174 _ _ _ _ _ (by omega) (by omega) hm
    · have hm := if_e1 hm c
      refine zQ.s (fun h => zs_iconst (v := 1) o dX1_retire_169 (by decide)) ?_
      refine zQ.s (fun h => zs_goto (tgt := 174) o dX1_retire_170 (by decide)) ?_
      refine zQ.fg (zl_n (zl_n (zl_n zl_0))) ?_
      exact hj174 _ _ _ _ _ (by omega) (by omega) hm
  have hj118 : ∀ (h : zH) (x0 : Nat) (x1 : Nat) (x2 : Nat) (cl sl : Nat), cl + (0) ≤ 3 → sl + (0) ≤ (15 + B) → j_X1_retire_j118 h e0 ic cm B x0 x1 x2 = some R → zQ (EH h) G X cl sl 118 [some (zrf x0), some (zrf x1), some (zrf x2)] [] := by
    intro h x0 x1 x2 cl sl hc hs hm
    unfold j_X1_retire_j118 at hm
    refine zQ.s (fun h => zs_aload_n (i := 0) o dX1_retire_118 rfl rfl) ?_
    refine zQ.s (fun h => zs_aload_n (i := 1) o dX1_retire_119 rfl rfl) ?_
    obtain ⟨g1, hm⟩ := gd_e hm
    obtain ⟨y2, c_y2, hm⟩ := bd_e hm
    refine zh_Vv o g1 ml_X1_425 (J_X1_learn G _ _ _ _  c_y2) dX1_retire_120 rfl rfl rfl rfl (by omega) (by omega) ?_
    refine zQ.s (fun h => zs_aload_n (i := 0) o dX1_retire_123 rfl rfl) ?_
    refine zQ.s (fun h => zs_aload_n (i := 1) o dX1_retire_124 rfl rfl) ?_
    obtain ⟨g3, hm⟩ := gd_e hm
    refine zh_getI o g3 fl_X1_310_8 rfl dX1_retire_125 ?_
    obtain ⟨g4, hm⟩ := gd_e hm
    obtain ⟨g5, hm⟩ := gd_e hm
    obtain ⟨S6, e_S6, hm⟩ := lt_e hm
    refine zh_putI o g4 g5 fl_X1_402_1 rfl rfl ⟨rfl, rfl⟩ dX1_retire_128 e_S6 ?_
    refine zQ.s (fun h => zs_aload_n (i := 2) o dX1_retire_131 rfl rfl) ?_
    obtain ⟨g7, hm⟩ := gd_e hm
    refine zh_getI o g7 fl_X1_247_4 rfl dX1_retire_132 ?_
    refine zQ.s (fun h => zs_bipush (v := 21) o dX1_retire_135 (by decide)) ?_
    refine zQ.b (fun h => zs_icmp_ne (tgt := 159) o dX1_retire_137 (by decide)) (fun c => ?_) (fun c => ?_)
    · have hm := if_e2 hm c
      refine zQ.fg (zl_s (zl_n (zl_s zl_0))) ?_
      exact hj159 _ _ _ _ _ (by omega) (by omega) hm
    · have hm := if_e1 hm c
      refine zQ.s (fun h => zs_aload_n (i := 0) o dX1_retire_140 rfl rfl) ?_
      refine zQ.s (fun h => zs_aload_n (i := 0) o dX1_retire_141 rfl rfl) ?_
      obtain ⟨g8, hm⟩ := gd_e hm
      refine zh_getR o g8 fl_X1_33_1 rfl dX1_retire_142 ?_
      obtain ⟨g9, hm⟩ := gd_e hm
      obtain ⟨y10, c_y10, hm⟩ := bd_e hm
      refine zh_Vi o g9 ml_X1_428 (J_X2_goBack G _ _ _ _  c_y10) dX1_retire_145 rfl rfl rfl rfl (by omega) (by omega) ?_
      obtain ⟨g11, hm⟩ := gd_e hm
      obtain ⟨g12, hm⟩ := gd_e hm
      obtain ⟨S13, e_S13, hm⟩ := lt_e hm
      refine zh_putI o g11 g12 fl_X1_402_1 rfl rfl ⟨rfl, rfl⟩ dX1_retire_148 e_S13 ?_
      refine zQ.s (fun h => zs_aload_n (i := 0) o dX1_retire_151 rfl rfl) ?_
      refine zQ.s (fun h => zs_aload_n (i := 0) o dX1_retire_152 rfl rfl) ?_
      obtain ⟨g14, hm⟩ := gd_e hm
      refine zh_getI o g14 fl_X1_402_1 rfl dX1_retire_153 ?_
      obtain ⟨g15, hm⟩ := gd_e hm
      obtain ⟨g16, hm⟩ := gd_e hm
      obtain ⟨S17, e_S17, hm⟩ := lt_e hm
      refine zh_putI o g15 g16 fl_X1_294_1 rfl rfl ⟨rfl, rfl⟩ dX1_retire_156 e_S17 ?_
      refine zQ.fg (zl_s (zl_n (zl_s zl_0))) ?_
      exact hj159 _ _ _ _ _ (by omega) (by omega) hm
  have hj80 : ∀ (h : zH) (x0 : Nat) (x1 : Nat) (x2 : Nat) (cl sl : Nat), cl + (0) ≤ 3 → sl + (0) ≤ (15 + B) → j_X1_retire_j80 h e0 ic cm B x0 x1 x2 = some R → zQ (EH h) G X cl sl 80 [some (zrf x0), some (zrf x1), some (zrf x2)] [] := by
    intro h x0 x1 x2 cl sl hc hs hm
    unfold j_X1_retire_j80 at hm
    refine zQ.s (fun h => zs_aload_n (i := 2) o dX1_retire_80 rfl rfl) ?_
    obtain ⟨g1, hm⟩ := gd_e hm
    obtain ⟨y2, c_y2, hm⟩ := bd_e hm
    refine zh_Vi o g1 ml_X1_235 (J_X4_isStore G _ _ _ _  c_y2) dX1_retire_81 rfl rfl rfl rfl (by omega) (by omega) ?_
    refine zQ.b (fun h => zs_if_eq (tgt := 118) o dX1_retire_84 (by decide)) (fun c => ?_) (fun c => ?_)
    · have hm := if_e1 hm c
      exact hj118 _ _ _ _ _ _ (by omega) (by omega) hm
    · have hm := if_e2 hm c
      refine zQ.s (fun h => zs_aload_n (i := 0) o dX1_retire_87 rfl rfl) ?_
      obtain ⟨g3, hm⟩ := gd_e hm
      refine zh_getR o g3 fl_X1_27_1 rfl dX1_retire_88 ?_
      refine zQ.s (fun h => zs_aload_n (i := 1) o dX1_retire_91 rfl rfl) ?_
      obtain ⟨g4, hm⟩ := gd_e hm
      refine zh_getI o g4 fl_X1_250_8 rfl dX1_retire_92 ?_
      refine zQ.s (fun h => zs_aload_n (i := 2) o dX1_retire_95 rfl rfl) ?_
      refine zQ.s (fun h => zs_aload_n (i := 0) o dX1_retire_96 rfl rfl) ?_
      obtain ⟨g5, hm⟩ := gd_e hm
      refine zh_getR o g5 fl_X1_27_1 rfl dX1_retire_97 ?_
      refine zQ.s (fun h => zs_aload_n (i := 1) o dX1_retire_100 rfl rfl) ?_
      obtain ⟨g6, hm⟩ := gd_e hm
      refine zh_getI o g6 fl_X1_250_8 rfl dX1_retire_101 ?_
      obtain ⟨g7, hm⟩ := gd_e hm
      obtain ⟨g8, hm⟩ := gd_e hm
      refine zh_iald o g7 g8 dX1_retire_104 ?_
      refine zQ.s (fun h => zs_aload_n (i := 0) o dX1_retire_105 rfl rfl) ?_
      obtain ⟨g9, hm⟩ := gd_e hm
      refine zh_getR o g9 fl_X1_50_1 rfl dX1_retire_106 ?_
      refine zQ.s (fun h => zs_aload_n (i := 1) o dX1_retire_109 rfl rfl) ?_
      obtain ⟨g10, hm⟩ := gd_e hm
      refine zh_getI o g10 fl_X1_244_8 rfl dX1_retire_110 ?_
      obtain ⟨g11, hm⟩ := gd_e hm
      obtain ⟨g12, hm⟩ := gd_e hm
      refine zh_iald o g11 g12 dX1_retire_113 ?_
      obtain ⟨g13, hm⟩ := gd_e hm
      obtain ⟨y14, c_y14, hm⟩ := bd_e hm
      refine zh_Vi o g13 ml_X1_422 (J_X4_stored G _ _ _ _ _ _  c_y14) dX1_retire_114 rfl rfl rfl rfl (by omega) (by omega) ?_
      obtain ⟨g15, hm⟩ := gd_e hm
      obtain ⟨g16, hm⟩ := gd_e hm
      obtain ⟨g17, hm⟩ := gd_e hm
      obtain ⟨S18, e_S18, hm⟩ := lt_e hm
      refine zh_iast o g15 g16 g17 dX1_retire_117 e_S18 ?_
      exact hj118 _ _ _ _ _ _ (by omega) (by omega) hm
  unfold j_X1_retire at hm
  refine zQ.s (fun h => zs_aload_n (i := 1) o dX1_retire_0 rfl rfl) ?_
  obtain ⟨g1, hm⟩ := gd_e hm
  refine zh_getR o g1 fl_X1_220_8 rfl dX1_retire_1 ?_
  obtain ⟨r2, e_r2, hm⟩ := lt_e hm
  refine zQ.nmr e_r2 ?_
  refine zQ.s (fun h => zs_astore_n (i := 2) o dX1_retire_4 rfl (by decide) (Or.inr (zc2_ref rfl)) (by simp only [List.set_cons_succ, List.set_cons_zero]; rfl)) ?_
  refine zQ.s (fun h => zs_aload_n (i := 0) o dX1_retire_5 rfl rfl) ?_
  obtain ⟨g3, hm⟩ := gd_e hm
  refine zh_getR o g3 fl_X1_79_1 rfl dX1_retire_6 ?_
  obtain ⟨g4, hm⟩ := gd_e hm
  obtain ⟨y5, c_y5, hm⟩ := bd_e hm
  refine zh_Vr o g4 ml_X1_419 (J_J6_removeFirst G _ _ _ _  c_y5) dX1_retire_9 rfl rfl rfl rfl (by omega) (by omega) ?_
  refine zQ.s (fun h => zs_pop o dX1_retire_12 (by first | rfl | exact zrf_cat _)) ?_
  refine zQ.s (fun h => zs_aload_n (i := 0) o dX1_retire_13 rfl rfl) ?_
  obtain ⟨g6, hm⟩ := gd_e hm
  refine zh_getR o g6 fl_X1_107_1 rfl dX1_retire_14 ?_
  obtain ⟨r7, e_r7, hm⟩ := lt_e hm
  obtain ⟨S8, e_S8, hm⟩ := lt_e hm
  refine zh_new (N := 4) o nl_X1_400 rfl dX1_retire_17 (by omega) (by omega) e_S8 ?_
  refine zQ.nmr e_r7 ?_
  refine zQ.s (fun h => zs_dup o dX1_retire_20 (by first | rfl | exact zrf_cat _)) ?_
  refine zQ.s (fun h => zs_iconst (v := 0) o dX1_retire_21 (by decide)) ?_
  refine zQ.s (fun h => zs_aload_n (i := 1) o dX1_retire_22 rfl rfl) ?_
  obtain ⟨g9, hm⟩ := gd_e hm
  refine zh_getI o g9 fl_X1_284_8 rfl dX1_retire_23 ?_
  refine zQ.s (fun h => zs_aload_n (i := 0) o dX1_retire_26 rfl rfl) ?_
  obtain ⟨g10, hm⟩ := gd_e hm
  refine zh_getI o g10 fl_X1_153_1 rfl dX1_retire_27 ?_
  refine zQ.s (fun h => zs_aload_n (i := 1) o dX1_retire_30 rfl rfl) ?_
  obtain ⟨g11, hm⟩ := gd_e hm
  obtain ⟨y12, c_y12, hm⟩ := bd_e hm
  refine zh_Iv o g11 ml_X1_405 (J_X5_init G _ _ _ _ _ _ _  c_y12) dX1_retire_31 rfl rfl rfl rfl (by omega) (by omega) ?_
  obtain ⟨g13, hm⟩ := gd_e hm
  obtain ⟨y14, c_y14, hm⟩ := bd_e hm
  refine zh_Fi o g13 ml_X1_198_10 (J_J2_add G _ _ _ _ _ _ _ _ z_e0 z_cm c_y14) dX1_retire_34 rfl rfl rfl rfl (by omega) (by omega) ?_
  refine zQ.s (fun h => zs_pop o dX1_retire_39 (by first | rfl | exact zrf_cat _)) ?_
  refine zQ.s (fun h => zs_aload_n (i := 1) o dX1_retire_40 rfl rfl) ?_
  obtain ⟨g15, hm⟩ := gd_e hm
  refine zh_getI o g15 fl_X1_328_8 rfl dX1_retire_41 ?_
  refine zQ.s (fun h => zs_iconst (v := -1) o dX1_retire_44 (by decide)) ?_
  refine zQ.b (fun h => zs_icmp_eq (tgt := 80) o dX1_retire_45 (by decide)) (fun c => ?_) (fun c => ?_)
  · have hm := if_e1 hm c
    exact hj80 _ _ _ _ _ _ (by omega) (by omega) hm
  · have hm := if_e2 hm c
    refine zQ.s (fun h => zs_aload_n (i := 0) o dX1_retire_48 rfl rfl) ?_
    obtain ⟨g16, hm⟩ := gd_e hm
    refine zh_getR o g16 fl_X1_69_1 rfl dX1_retire_49 ?_
    refine zQ.s (fun h => zs_aload_n (i := 0) o dX1_retire_52 rfl rfl) ?_
    obtain ⟨g17, hm⟩ := gd_e hm
    refine zh_getR o g17 fl_X1_63_1 rfl dX1_retire_53 ?_
    refine zQ.s (fun h => zs_aload_n (i := 2) o dX1_retire_56 rfl rfl) ?_
    obtain ⟨g18, hm⟩ := gd_e hm
    refine zh_getI o g18 fl_X1_340_4 rfl dX1_retire_57 ?_
    obtain ⟨g19, hm⟩ := gd_e hm
    obtain ⟨g20, hm⟩ := gd_e hm
    refine zh_iald o g19 g20 dX1_retire_60 ?_
    obtain ⟨y21, c_y21, hm⟩ := bd_e hm
    refine zh_Sr o ml_X1_131 (J_J21_valueOf G _ _ _ _ _ z_ih z_ic c_y21) dX1_retire_61 rfl rfl rfl rfl (by omega) (by omega) ?_
    obtain ⟨g22, hm⟩ := gd_e hm
    obtain ⟨y23, c_y23, hm⟩ := bd_e hm
    refine zh_Vv o g22 ml_X1_137 (J_J4_addLast G _ _ _ _  c_y23) dX1_retire_64 rfl rfl rfl rfl (by omega) (by omega) ?_
    refine zQ.s (fun h => zs_aload_n (i := 0) o dX1_retire_67 rfl rfl) ?_
    obtain ⟨g24, hm⟩ := gd_e hm
    refine zh_getR o g24 fl_X1_63_1 rfl dX1_retire_68 ?_
    refine zQ.s (fun h => zs_aload_n (i := 2) o dX1_retire_71 rfl rfl) ?_
    obtain ⟨g25, hm⟩ := gd_e hm
    refine zh_getI o g25 fl_X1_340_4 rfl dX1_retire_72 ?_
    refine zQ.s (fun h => zs_aload_n (i := 1) o dX1_retire_75 rfl rfl) ?_
    obtain ⟨g26, hm⟩ := gd_e hm
    refine zh_getI o g26 fl_X1_328_8 rfl dX1_retire_76 ?_
    obtain ⟨g27, hm⟩ := gd_e hm
    obtain ⟨g28, hm⟩ := gd_e hm
    obtain ⟨g29, hm⟩ := gd_e hm
    obtain ⟨S30, e_S30, hm⟩ := lt_e hm
    refine zh_iast o g27 g28 g29 dX1_retire_79 e_S30 ?_
    exact hj80 _ _ _ _ _ _ (by omega) (by omega) hm

def j_X1_retireAll_j133 (k43 : zH → Nat → Nat → Nat → Nat → Nat → Nat → Int32 → Int32 → Option zH) (h : zH) (e0 : Nat) (ic : Nat) (sp : Nat) (cm : Nat) (B : Nat) (x0 : Nat) (x1 : Int32) (x2 : Int32) : Option zH :=
  k43 h e0 ic sp cm B x0 x1 x2
def j_X1_retireAll_j110 (k43 : zH → Nat → Nat → Nat → Nat → Nat → Nat → Int32 → Int32 → Option zH) (h : zH) (e0 : Nat) (ic : Nat) (sp : Nat) (cm : Nat) (B : Nat) (x0 : Nat) (x1 : Int32) (x3 : Nat) (x4 : Int32) (s0 : Int32) : Option zH :=
  if s0 = (0 : Int32) then
    gd (kd h x0 1) <|
    bd (j_X1_takeTrap h x0 x3 x4 e0 ic cm B) fun y2 =>
    j_X1_retireAll_j133 k43 y2 e0 ic sp cm B x0 x1 s0
  else
    gd (kd h x0 1) <|
    bd (j_X1_retire h x0 x3 e0 ic cm B) fun y4 =>
    j_X1_retireAll_j133 k43 y4 e0 ic sp cm B x0 (x1 + (1 : Int32)) s0
def j_X1_retireAll_j157 (h : zH) (e0 : Nat) (ic : Nat) (sp : Nat) (cm : Nat) (B : Nat) : Option zH :=
  some h
def j_X1_retireAll_j154 (h : zH) (e0 : Nat) (ic : Nat) (sp : Nat) (cm : Nat) (B : Nat) (s1 : Int32) (s0 : Nat) : Option zH :=
  gd (kd h s0 1) <|
  bd (j_X1_lose h s0 s1 sp) fun y2 =>
  j_X1_retireAll_j157 y2 e0 ic sp cm B
def j_X1_retireAll_j136 (h : zH) (e0 : Nat) (ic : Nat) (sp : Nat) (cm : Nat) (B : Nat) (x0 : Nat) (x1 : Int32) (x2 : Int32) : Option zH :=
  if x1 = (0 : Int32) then
    if x2 = (0 : Int32) then
      j_X1_retireAll_j154 h e0 ic sp cm B (116 : Int32) x0
    else
      gd (kd h x0 1) <|
      bd (j_X1_reasonNow h x0) fun y2 =>
      j_X1_retireAll_j154 y2.1 e0 ic sp cm B y2.2 x0
  else
    j_X1_retireAll_j157 h e0 ic sp cm B
def j_X1_retireAll_b43 (k43 : zH → Nat → Nat → Nat → Nat → Nat → Nat → Int32 → Int32 → Option zH) (h : zH) (e0 : Nat) (ic : Nat) (sp : Nat) (cm : Nat) (B : Nat) (x0 : Nat) (x1 : Int32) (x2 : Int32) : Option zH :=
  if x2 = (0 : Int32) then
    j_X1_retireAll_j136 h e0 ic sp cm B x0 x1 x2
  else
    gd (kd h x0 1) <|
    if (hI h 1 5 x0) ≤ x1 then
      j_X1_retireAll_j136 h e0 ic sp cm B x0 x1 x2
    else
      gd (kd h x0 1) <|
      gd (kd h (hR h 1 15 x0) 13) <|
      bd (j_J0_isEmptyL h (hR h 1 15 x0)) fun y4 =>
      if y4.2 = (0 : Int32) then
        gd (kd y4.1 x0 1) <|
        gd (kd y4.1 (hR y4.1 1 15 x0) 13) <|
        bd (j_J6_getFirst y4.1 (hR y4.1 1 15 x0)) fun y7 =>
        gd (kd y7.1 y7.2 8) <|
        gd (kd y7.1 x0 1) <|
        bd (j_X1_canRetire y7.1 x0 y7.2) fun y10 =>
        if y10.2 = (0 : Int32) then
          j_X1_retireAll_j136 y10.1 e0 ic sp cm B x0 x1 x2
        else
          gd (kd y10.1 x0 1) <|
          gd (kd y10.1 (hR y10.1 1 15 x0) 13) <|
          bd (j_J6_getFirst y10.1 (hR y10.1 1 15 x0)) fun y13 =>
          gd (kd y13.1 y13.2 8) <|
          gd (kd y13.1 x0 1) <|
          bd (j_X1_trapOf y13.1 x0 y13.2) fun y16 =>
          if y16.2 = (0 : Int32) then
            j_X1_retireAll_j110 k43 y16.1 e0 ic sp cm B x0 x1 y13.2 y16.2 (1 : Int32)
          else
            j_X1_retireAll_j110 k43 y16.1 e0 ic sp cm B x0 x1 y13.2 y16.2 (0 : Int32)
      else
        j_X1_retireAll_j136 y4.1 e0 ic sp cm B x0 x1 x2
def j_X1_retireAll_l43 : Nat → zH → Nat → Nat → Nat → Nat → Nat → Nat → Int32 → Int32 → Option zH
  | 0 => fun _ _ _ _ _ _ _ _ _ => none
  | n + 1 => j_X1_retireAll_b43 (j_X1_retireAll_l43 n)
def j_X1_retireAll_j39 (h : zH) (e0 : Nat) (ic : Nat) (sp : Nat) (cm : Nat) (B : Nat) (x0 : Nat) : Option zH :=
  j_X1_retireAll_l43 5 h e0 ic sp cm B x0 (0 : Int32) (1 : Int32)
def j_X1_retireAll (h : zH) (p : Nat) (e0 : Nat) (ic : Nat) (sp : Nat) (cm : Nat) (B : Nat) : Option zH :=
  gd (kd h p 1) <|
  if (hI h 1 28 p) = (0 : Int32) then
    j_X1_retireAll_j39 h e0 ic sp cm B p
  else
    gd (kd h p 1) <|
    gd (kd h (hR h 1 4 p) 2) <|
    if (hI h 2 2 (hR h 1 4 p)) = (0 : Int32) then
      gd (kd h p 1) <|
      gd (kd h (hR h 1 4 p) 2) <|
      if (hI h 2 1 (hR h 1 4 p)) = (-1 : Int32) then
        j_X1_retireAll_j39 h e0 ic sp cm B p
      else
        gd (kd h p 1) <|
        bd (j_X1_takeInterrupt h p e0 ic cm B) fun y7 =>
        gd (kd y7 p 1) <|
        bd (j_X1_lose y7 p (105 : Int32) sp) fun y9 =>
        some y9
    else
      j_X1_retireAll_j39 h e0 ic sp cm B p

set_option maxHeartbeats 40000000 in
theorem J_X1_retireAll (G : zG) (h : zH) (p : Nat) (e0 : Nat) (ic : Nat) (sp : Nat) (cm : Nat) (B : Nat) (h9 : zH) (z_e0 : ("java/util/ArrayList", "DEFAULTCAPACITY_EMPTY_ELEMENTDATA", "[Ljava/lang/Object;", zrf e0) ∈ zGz G) (z_ih : ("java/lang/Integer$IntegerCache", "high", "I", .int 127) ∈ zGz G) (z_ic : ("java/lang/Integer$IntegerCache", "cache", "[Ljava/lang/Integer;", zrf ic) ∈ zGz G) (z_ad : ("java/util/BitSet", "$assertionsDisabled", "Z", .int 1) ∈ zGz G) (z_cs : ("java/lang/String", "COMPACT_STRINGS", "Z", .int 1) ∈ zGz G) (z_sp : sp = zGs G + 1) (z_cm : cm = zGm G + 1) (hm : j_X1_retireAll h p e0 ic sp cm B = some h9) : zJv G yX1_retireAll cX1_retireAll 5 none 8 120 (220 + 5 * B) [zrf p] h h9 := by
  refine zCo.st [some (zrf p), none, none, none, none] rfl rfl (by simp only [zarg_r, zarg_i, zarg_l, zarg_0]; rfl) (fun X o f0 hin hw0 => ?_)
  have f := f0.e
  have hin : (Xt X).name = "retireAll" := hin
  refine (?_ : zQ (EH h) G X 0 0 0 [some (zrf p), none, none, none, none] []) h rfl hw0
  clear hw0
  generalize hR9 : (h9 : zH) = R at hm
  have hj157 : ∀ (h : zH) (cl sl : Nat), cl + (0) ≤ 120 → sl + (0) ≤ (220 + 5 * B) → j_X1_retireAll_j157 h e0 ic sp cm B = some R → zQ (EH h) G X cl sl 157 [none, none, none, none, none] [] := by
    intro h cl sl hc hs hm
    unfold j_X1_retireAll_j157 at hm
    refine zh_retv o f dX1_retireAll_157 (by omega) (by omega) ((so_e hm).trans hR9.symm)
  have hj154 : ∀ (h : zH) (s1 : Int32) (s0 : Nat) (cl sl : Nat), cl + (0) ≤ 120 → sl + (0) ≤ (220 + 5 * B) → j_X1_retireAll_j154 h e0 ic sp cm B s1 s0 = some R → zQ (EH h) G X cl sl 154 [none, none, none, none, none] [.int s1, zrf s0] := by
    intro h s1 s0 cl sl hc hs hm
    unfold j_X1_retireAll_j154 at hm
    obtain ⟨g1, hm⟩ := gd_e hm
    obtain ⟨y2, c_y2, hm⟩ := bd_e hm
    refine zh_Vv o g1 ml_X1_378 (J_X1_lose G _ _ _ _ _ z_cs z_sp c_y2) dX1_retireAll_154 rfl rfl rfl rfl (by omega) (by omega) ?_
    exact hj157 _ _ _ (by omega) (by omega) hm
  have hj136 : ∀ (h : zH) (x0 : Nat) (x1 : Int32) (x2 : Int32) (cl sl : Nat), cl + (0) ≤ 120 → sl + (0) ≤ (220 + 5 * B) → j_X1_retireAll_j136 h e0 ic sp cm B x0 x1 x2 = some R → zQ (EH h) G X cl sl 136 [some (zrf x0), some (.int x1), some (.int x2), none, none] [] := by
    intro h x0 x1 x2 cl sl hc hs hm
    unfold j_X1_retireAll_j136 at hm
    refine zQ.s (fun h => zs_iload_n (i := 1) o dX1_retireAll_136 rfl rfl) ?_
    refine zQ.b (fun h => zs_if_ne (tgt := 157) o dX1_retireAll_137 (by decide)) (fun c => ?_) (fun c => ?_)
    · have hm := if_e2 hm c
      refine zQ.fg (zl_n (zl_n (zl_n (zl_n (zl_n zl_0))))) ?_
      exact hj157 _ _ _ (by omega) (by omega) hm
    · have hm := if_e1 hm c
      refine zQ.s (fun h => zs_aload_n (i := 0) o dX1_retireAll_140 rfl rfl) ?_
      refine zQ.s (fun h => zs_iload_n (i := 2) o dX1_retireAll_141 rfl rfl) ?_
      refine zQ.b (fun h => zs_if_ne (tgt := 150) o dX1_retireAll_142 (by decide)) (fun c => ?_) (fun c => ?_)
      · have hm := if_e2 hm c
        refine zQ.s (fun h => zs_aload_n (i := 0) o dX1_retireAll_150 rfl rfl) ?_
        obtain ⟨g1, hm⟩ := gd_e hm
        obtain ⟨y2, c_y2, hm⟩ := bd_e hm
        refine zh_Vi o g1 ml_X1_396 (J_X1_reasonNow G _ _ _ _  c_y2) dX1_retireAll_151 rfl rfl rfl rfl (by omega) (by omega) ?_
        refine zQ.fg (zl_n (zl_n (zl_n (zl_n (zl_n zl_0))))) ?_
        exact hj154 _ _ _ _ _ (by omega) (by omega) hm
      · have hm := if_e1 hm c
        refine zQ.s (fun h => zs_bipush (v := 116) o dX1_retireAll_145 (by decide)) ?_
        refine zQ.s (fun h => zs_goto (tgt := 154) o dX1_retireAll_147 (by decide)) ?_
        refine zQ.fg (zl_n (zl_n (zl_n (zl_n (zl_n zl_0))))) ?_
        exact hj154 _ _ _ _ _ (by omega) (by omega) hm
  have hl43 : ∀ (n43 : Nat), n43 ≤ 5 → ∀ (h : zH) (x0 : Nat) (x1 : Int32) (x2 : Int32) (cl sl : Nat), cl + (n43 * 24 + 0) ≤ 120 → sl + (n43 * (44 + B) + 0) ≤ (220 + 5 * B) → j_X1_retireAll_l43 n43 h e0 ic sp cm B x0 x1 x2 = some R → zQ (EH h) G X cl sl 43 [some (zrf x0), some (.int x1), some (.int x2), none, none] [] := by
    intro n43
    induction n43 with
    | zero => intro _ h x0 x1 x2 cl sl _ _ hm; exact no_e hm
    | succ n43 ih =>
      intro hf43
      have ih43 := ih (by omega)
      have hj133 : ∀ (h : zH) (x0 : Nat) (x1 : Int32) (x2 : Int32) (cl sl : Nat), cl + (0 + (n43 * 24 + 0)) ≤ 120 → sl + (0 + (n43 * (44 + B) + 0)) ≤ (220 + 5 * B) → j_X1_retireAll_j133 (j_X1_retireAll_l43 n43) h e0 ic sp cm B x0 x1 x2 = some R → zQ (EH h) G X cl sl 133 [some (zrf x0), some (.int x1), some (.int x2), none, none] [] := by
        intro h x0 x1 x2 cl sl hc hs hm
        unfold j_X1_retireAll_j133 at hm
        refine zQ.s (fun h => zs_goto (tgt := 43) o dX1_retireAll_133 (by decide)) ?_
        exact ih43 _ _ _ _ _ _ (by omega) (by omega) hm
      have hj110 : ∀ (h : zH) (x0 : Nat) (x1 : Int32) (x3 : Nat) (x4 : Int32) (s0 : Int32) (cl sl : Nat), cl + (24 + (n43 * 24 + 0)) ≤ 120 → sl + ((44 + B) + (n43 * (44 + B) + 0)) ≤ (220 + 5 * B) → j_X1_retireAll_j110 (j_X1_retireAll_l43 n43) h e0 ic sp cm B x0 x1 x3 x4 s0 = some R → zQ (EH h) G X cl sl 110 [some (zrf x0), some (.int x1), none, some (zrf x3), some (.int x4)] [.int s0] := by
        intro h x0 x1 x3 x4 s0 cl sl hc hs hm
        unfold j_X1_retireAll_j110 at hm
        refine zQ.s (fun h => zs_istore_n (i := 2) o dX1_retireAll_110 rfl (by decide) (Or.inr rfl) (by simp only [List.set_cons_succ, List.set_cons_zero]; rfl)) ?_
        refine zQ.s (fun h => zs_iload_n (i := 2) o dX1_retireAll_111 rfl rfl) ?_
        refine zQ.b (fun h => zs_if_eq (tgt := 126) o dX1_retireAll_112 (by decide)) (fun c => ?_) (fun c => ?_)
        · have hm := if_e1 hm c
          refine zQ.s (fun h => zs_aload_n (i := 0) o dX1_retireAll_126 rfl rfl) ?_
          refine zQ.s (fun h => zs_aload_n (i := 3) o dX1_retireAll_127 rfl rfl) ?_
          refine zQ.s (fun h => zs_iload (i := 4) o dX1_retireAll_128 rfl) ?_
          obtain ⟨g1, hm⟩ := gd_e hm
          obtain ⟨y2, c_y2, hm⟩ := bd_e hm
          refine zh_Vv o g1 ml_X1_392 (J_X1_takeTrap G _ _ _ _ _ _ _ _ _ z_e0 z_ih z_ic z_cm c_y2) dX1_retireAll_130 rfl rfl rfl rfl (by omega) (by omega) ?_
          refine zQ.fg (zl_s (zl_s (zl_s (zl_n (zl_n zl_0))))) ?_
          exact hj133 _ _ _ _ _ _ (by omega) (by omega) hm
        · have hm := if_e2 hm c
          refine zQ.s (fun h => zs_aload_n (i := 0) o dX1_retireAll_115 rfl rfl) ?_
          refine zQ.s (fun h => zs_aload_n (i := 3) o dX1_retireAll_116 rfl rfl) ?_
          obtain ⟨g3, hm⟩ := gd_e hm
          obtain ⟨y4, c_y4, hm⟩ := bd_e hm
          refine zh_Vv o g3 ml_X1_389 (J_X1_retire G _ _ _ _ _ _ _ _ z_e0 z_ih z_ic z_cm c_y4) dX1_retireAll_117 rfl rfl rfl rfl (by omega) (by omega) ?_
          refine zQ.s (fun h => zs_iinc (i := 1) (v := x1 + (1 : Int32)) o dX1_retireAll_120 rfl rfl (by decide) (Or.inr (zc2_ref rfl)) (by simp only [List.set_cons_succ, List.set_cons_zero]; rfl)) ?_
          refine zQ.s (fun h => zs_goto (tgt := 133) o dX1_retireAll_123 (by decide)) ?_
          refine zQ.fg (zl_s (zl_s (zl_s (zl_n (zl_n zl_0))))) ?_
          exact hj133 _ _ _ _ _ _ (by omega) (by omega) hm
      intro h x0 x1 x2 cl sl hc hs hm
      try simp only [Nat.add_mul, Nat.one_mul] at hc hs
      have hm : j_X1_retireAll_b43 (j_X1_retireAll_l43 n43) h e0 ic sp cm B x0 x1 x2 = some R := hm
      unfold j_X1_retireAll_b43 at hm
      refine zQ.s (fun h => zs_iload_n (i := 2) o dX1_retireAll_43 rfl rfl) ?_
      refine zQ.b (fun h => zs_if_eq (tgt := 136) o dX1_retireAll_44 (by decide)) (fun c => ?_) (fun c => ?_)
      · have hm := if_e1 hm c
        exact hj136 _ _ _ _ _ _ (by omega) (by omega) hm
      · have hm := if_e2 hm c
        refine zQ.s (fun h => zs_iload_n (i := 1) o dX1_retireAll_47 rfl rfl) ?_
        refine zQ.s (fun h => zs_aload_n (i := 0) o dX1_retireAll_48 rfl rfl) ?_
        obtain ⟨g1, hm⟩ := gd_e hm
        refine zh_getI o g1 fl_X1_37_1 rfl dX1_retireAll_49 ?_
        refine zQ.b (fun h => zs_icmp_ge (tgt := 136) o dX1_retireAll_52 (by decide)) (fun c => ?_) (fun c => ?_)
        · have hm := if_e1 hm c
          exact hj136 _ _ _ _ _ _ (by omega) (by omega) hm
        · have hm := if_e2 hm c
          refine zQ.s (fun h => zs_aload_n (i := 0) o dX1_retireAll_55 rfl rfl) ?_
          obtain ⟨g2, hm⟩ := gd_e hm
          refine zh_getR o g2 fl_X1_79_1 rfl dX1_retireAll_56 ?_
          obtain ⟨g3, hm⟩ := gd_e hm
          obtain ⟨y4, c_y4, hm⟩ := bd_e hm
          refine zh_Ui o g3 ml_X1_346 (J_J0_isEmptyL G _ _ _ _  c_y4) dX1_retireAll_59 rfl rfl rfl rfl (by omega) (by omega) ?_
          refine zQ.b (fun h => zs_if_ne (tgt := 136) o dX1_retireAll_62 (by decide)) (fun c => ?_) (fun c => ?_)
          · have hm := if_e2 hm c
            exact hj136 _ _ _ _ _ _ (by omega) (by omega) hm
          · have hm := if_e1 hm c
            refine zQ.s (fun h => zs_aload_n (i := 0) o dX1_retireAll_65 rfl rfl) ?_
            refine zQ.s (fun h => zs_aload_n (i := 0) o dX1_retireAll_66 rfl rfl) ?_
            obtain ⟨g5, hm⟩ := gd_e hm
            refine zh_getR o g5 fl_X1_79_1 rfl dX1_retireAll_67 ?_
            obtain ⟨g6, hm⟩ := gd_e hm
            obtain ⟨y7, c_y7, hm⟩ := bd_e hm
            refine zh_Vr o g6 ml_X1_349 (J_J6_getFirst G _ _ _ _  c_y7) dX1_retireAll_70 rfl rfl rfl rfl (by omega) (by omega) ?_
            obtain ⟨g8, hm⟩ := gd_e hm
            refine zh_cast (c := 8) o q1468 (by decide) (by decide) g8 dX1_retireAll_73 ?_
            obtain ⟨g9, hm⟩ := gd_e hm
            obtain ⟨y10, c_y10, hm⟩ := bd_e hm
            refine zh_Vi o g9 ml_X1_382 (J_X1_canRetire G _ _ _ _ _ z_ad c_y10) dX1_retireAll_76 rfl rfl rfl rfl (by omega) (by omega) ?_
            refine zQ.b (fun h => zs_if_eq (tgt := 136) o dX1_retireAll_79 (by decide)) (fun c => ?_) (fun c => ?_)
            · have hm := if_e1 hm c
              exact hj136 _ _ _ _ _ _ (by omega) (by omega) hm
            · have hm := if_e2 hm c
              refine zQ.s (fun h => zs_aload_n (i := 0) o dX1_retireAll_82 rfl rfl) ?_
              obtain ⟨g11, hm⟩ := gd_e hm
              refine zh_getR o g11 fl_X1_79_1 rfl dX1_retireAll_83 ?_
              obtain ⟨g12, hm⟩ := gd_e hm
              obtain ⟨y13, c_y13, hm⟩ := bd_e hm
              refine zh_Vr o g12 ml_X1_349 (J_J6_getFirst G _ _ _ _  c_y13) dX1_retireAll_86 rfl rfl rfl rfl (by omega) (by omega) ?_
              obtain ⟨g14, hm⟩ := gd_e hm
              refine zh_cast (c := 8) o q1468 (by decide) (by decide) g14 dX1_retireAll_89 ?_
              refine zQ.s (fun h => zs_astore_n (i := 3) o dX1_retireAll_92 rfl (by decide) (Or.inr rfl) (by simp only [List.set_cons_succ, List.set_cons_zero]; rfl)) ?_
              refine zQ.s (fun h => zs_aload_n (i := 0) o dX1_retireAll_93 rfl rfl) ?_
              refine zQ.s (fun h => zs_aload_n (i := 3) o dX1_retireAll_94 rfl rfl) ?_
              obtain ⟨g15, hm⟩ := gd_e hm
              obtain ⟨y16, c_y16, hm⟩ := bd_e hm
              refine zh_Vi o g15 ml_X1_385 (J_X1_trapOf G _ _ _ _ _  c_y16) dX1_retireAll_95 rfl rfl rfl rfl (by omega) (by omega) ?_
              refine zQ.s (fun h => zs_istore (i := 4) o dX1_retireAll_98 (by decide) (Or.inr (zc2_ref rfl)) (by simp only [List.set_cons_succ, List.set_cons_zero]; rfl)) ?_
              refine zQ.s (fun h => zs_iload (i := 4) o dX1_retireAll_100 rfl) ?_
              refine zQ.b (fun h => zs_if_ne (tgt := 109) o dX1_retireAll_102 (by decide)) (fun c => ?_) (fun c => ?_)
              · have hm := if_e2 hm c
                refine zQ.s (fun h => zs_iconst (v := 0) o dX1_retireAll_109 (by decide)) ?_
                refine zQ.fg (zl_s (zl_s (zl_n (zl_s (zl_s zl_0))))) ?_
                exact hj110 _ _ _ _ _ _ _ _ (by omega) (by omega) hm
              · have hm := if_e1 hm c
                refine zQ.s (fun h => zs_iconst (v := 1) o dX1_retireAll_105 (by decide)) ?_
                refine zQ.s (fun h => zs_goto (tgt := 110) o dX1_retireAll_106 (by decide)) ?_
                refine zQ.fg (zl_s (zl_s (zl_n (zl_s (zl_s zl_0))))) ?_
                exact hj110 _ _ _ _ _ _ _ _ (by omega) (by omega) hm
  have hj39 : ∀ (h : zH) (x0 : Nat) (cl sl : Nat), cl + (120) ≤ 120 → sl + ((220 + 5 * B)) ≤ (220 + 5 * B) → j_X1_retireAll_j39 h e0 ic sp cm B x0 = some R → zQ (EH h) G X cl sl 39 [some (zrf x0), none, none, none, none] [] := by
    intro h x0 cl sl hc hs hm
    unfold j_X1_retireAll_j39 at hm
    refine zQ.s (fun h => zs_iconst (v := 0) o dX1_retireAll_39 (by decide)) ?_
    refine zQ.s (fun h => zs_istore_n (i := 1) o dX1_retireAll_40 rfl (by decide) (Or.inr (zc2_ref rfl)) (by simp only [List.set_cons_succ, List.set_cons_zero]; rfl)) ?_
    refine zQ.s (fun h => zs_iconst (v := 1) o dX1_retireAll_41 (by decide)) ?_
    refine zQ.s (fun h => zs_istore_n (i := 2) o dX1_retireAll_42 rfl (by decide) (Or.inr rfl) (by simp only [List.set_cons_succ, List.set_cons_zero]; rfl)) ?_
    exact hl43 5 (Nat.le_refl _) _ _ _ _ _ _ (by omega) (by omega) hm
  unfold j_X1_retireAll at hm
  refine zQ.s (fun h => zs_aload_n (i := 0) o dX1_retireAll_0 rfl rfl) ?_
  obtain ⟨g1, hm⟩ := gd_e hm
  refine zh_getI o g1 fl_X1_369_1 rfl dX1_retireAll_1 ?_
  refine zQ.b (fun h => zs_if_eq (tgt := 39) o dX1_retireAll_4 (by decide)) (fun c => ?_) (fun c => ?_)
  · have hm := if_e1 hm c
    exact hj39 _ _ _ _ (by omega) (by omega) hm
  · have hm := if_e2 hm c
    refine zQ.s (fun h => zs_aload_n (i := 0) o dX1_retireAll_7 rfl rfl) ?_
    obtain ⟨g2, hm⟩ := gd_e hm
    refine zh_getR o g2 fl_X1_33_1 rfl dX1_retireAll_8 ?_
    obtain ⟨g3, hm⟩ := gd_e hm
    refine zh_getI o g3 fl_X1_356_2 rfl dX1_retireAll_11 ?_
    refine zQ.b (fun h => zs_if_ne (tgt := 39) o dX1_retireAll_14 (by decide)) (fun c => ?_) (fun c => ?_)
    · have hm := if_e2 hm c
      exact hj39 _ _ _ _ (by omega) (by omega) hm
    · have hm := if_e1 hm c
      refine zQ.s (fun h => zs_aload_n (i := 0) o dX1_retireAll_17 rfl rfl) ?_
      obtain ⟨g4, hm⟩ := gd_e hm
      refine zh_getR o g4 fl_X1_33_1 rfl dX1_retireAll_18 ?_
      obtain ⟨g5, hm⟩ := gd_e hm
      refine zh_getI o g5 fl_X1_372_2 rfl dX1_retireAll_21 ?_
      refine zQ.s (fun h => zs_iconst (v := -1) o dX1_retireAll_24 (by decide)) ?_
      refine zQ.b (fun h => zs_icmp_eq (tgt := 39) o dX1_retireAll_25 (by decide)) (fun c => ?_) (fun c => ?_)
      · have hm := if_e1 hm c
        exact hj39 _ _ _ _ (by omega) (by omega) hm
      · have hm := if_e2 hm c
        refine zQ.s (fun h => zs_aload_n (i := 0) o dX1_retireAll_28 rfl rfl) ?_
        obtain ⟨g6, hm⟩ := gd_e hm
        obtain ⟨y7, c_y7, hm⟩ := bd_e hm
        refine zh_Vv o g6 ml_X1_375 (J_X1_takeInterrupt G _ _ _ _ _ _ _ z_e0 z_ih z_ic z_cm c_y7) dX1_retireAll_29 rfl rfl rfl rfl (by omega) (by omega) ?_
        refine zQ.s (fun h => zs_aload_n (i := 0) o dX1_retireAll_32 rfl rfl) ?_
        refine zQ.s (fun h => zs_bipush (v := 105) o dX1_retireAll_33 (by decide)) ?_
        obtain ⟨g8, hm⟩ := gd_e hm
        obtain ⟨y9, c_y9, hm⟩ := bd_e hm
        refine zh_Vv o g8 ml_X1_378 (J_X1_lose G _ _ _ _ _ z_cs z_sp c_y9) dX1_retireAll_35 rfl rfl rfl rfl (by omega) (by omega) ?_
        refine zh_retv o f dX1_retireAll_38 (by omega) (by omega) ((so_e hm).trans hR9.symm)

def j_X1_isDividing_j58 (k10 : zH → Int32 → Nat → Option (zH × Int32)) (h : zH) (x2 : Nat) (s0 : Int32) : Option (zH × Int32) :=
  k10 h s0 x2
def j_X1_isDividing_j53 (k10 : zH → Int32 → Nat → Option (zH × Int32)) (h : zH) (x2 : Nat) : Option (zH × Int32) :=
  j_X1_isDividing_j58 k10 h x2 (1 : Int32)
def j_X1_isDividing_j57 (k10 : zH → Int32 → Nat → Option (zH × Int32)) (h : zH) (x2 : Nat) : Option (zH × Int32) :=
  j_X1_isDividing_j58 k10 h x2 (0 : Int32)
def j_X1_isDividing_b10 (k10 : zH → Int32 → Nat → Option (zH × Int32)) (h : zH) (x1 : Int32) (x2 : Nat) : Option (zH × Int32) :=
  gd (kd h x2 16) <|
  bd (j_J28_hasNext h x2) fun y2 =>
  if y2.2 = (0 : Int32) then
    gd (b01 x1) <|
    some (y2.1, x1)
  else
    gd (kd y2.1 x2 16) <|
    bd (j_J28_next y2.1 x2) fun y5 =>
    gd (kd y5.1 y5.2 8) <|
    if x1 = (0 : Int32) then
      gd (kd y5.1 y5.2 8) <|
      if (hI y5.1 8 14 y5.2) = (120 : Int32) then
        gd (kd y5.1 y5.2 8) <|
        gd (kd y5.1 (hR y5.1 8 0 y5.2) 4) <|
        if (hI y5.1 4 0 (hR y5.1 8 0 y5.2)) = (5 : Int32) then
          j_X1_isDividing_j53 k10 y5.1 x2
        else
          j_X1_isDividing_j57 k10 y5.1 x2
      else
        j_X1_isDividing_j57 k10 y5.1 x2
    else
      j_X1_isDividing_j53 k10 y5.1 x2
def j_X1_isDividing_l10 : Nat → zH → Int32 → Nat → Option (zH × Int32)
  | 0 => fun _ _ _ => none
  | n + 1 => j_X1_isDividing_b10 (j_X1_isDividing_l10 n)
def j_X1_isDividing (h : zH) (p : Nat) : Option (zH × Int32) :=
  gd (kd h p 1) <|
  gd (kd h (hR h 1 15 p) 13) <|
  bd (j_J5_iterator h (hR h 1 15 p)) fun y3 =>
  j_X1_isDividing_l10 18 y3.1 (0 : Int32) y3.2

set_option maxHeartbeats 40000000 in
theorem J_X1_isDividing (G : zG) (h : zH) (p : Nat) (V : Int32) (h9 : zH) (hm : j_X1_isDividing h p = some (h9, V)) : zJi G yX1_isDividing cX1_isDividing 4 (some .boolean) 5 1 5 [zrf p] h V h9 := by
  refine zCo.st [some (zrf p), none, none, none] rfl rfl (by simp only [zarg_r, zarg_i, zarg_l, zarg_0]; rfl) (fun X o f0 hin hw0 => ?_)
  have f := f0.e
  have hin : (Xt X).name = "isDividing" := hin
  refine (?_ : zQ (EH h) G X 0 0 0 [some (zrf p), none, none, none] []) h rfl hw0
  clear hw0
  generalize hR9 : ((h9, V) : (zH × Int32)) = R at hm
  have hl10 : ∀ (n10 : Nat), n10 ≤ 18 → ∀ (h : zH) (x1 : Int32) (x2 : Nat) (cl sl : Nat), cl + (0) ≤ 1 → sl + (0) ≤ 5 → j_X1_isDividing_l10 n10 h x1 x2 = some R → zQ (EH h) G X cl sl 10 [none, some (.int x1), some (zrf x2), none] [] := by
    intro n10
    induction n10 with
    | zero => intro _ h x1 x2 cl sl _ _ hm; exact no_e hm
    | succ n10 ih =>
      intro hf10
      have ih10 := ih (by omega)
      have hj58 : ∀ (h : zH) (x2 : Nat) (s0 : Int32) (cl sl : Nat), cl + (0) ≤ 1 → sl + (0) ≤ 5 → j_X1_isDividing_j58 (j_X1_isDividing_l10 n10) h x2 s0 = some R → zQ (EH h) G X cl sl 58 [none, none, some (zrf x2), none] [.int s0] := by
        intro h x2 s0 cl sl hc hs hm
        unfold j_X1_isDividing_j58 at hm
        refine zQ.s (fun h => zs_istore_n (i := 1) o dX1_isDividing_58 rfl (by decide) (Or.inr rfl) (by simp only [List.set_cons_succ, List.set_cons_zero]; rfl)) ?_
        refine zQ.s (fun h => zs_goto (tgt := 10) o dX1_isDividing_59 (by decide)) ?_
        exact ih10 _ _ _ _ _ (by omega) (by omega) hm
      have hj53 : ∀ (h : zH) (x2 : Nat) (cl sl : Nat), cl + (0) ≤ 1 → sl + (0) ≤ 5 → j_X1_isDividing_j53 (j_X1_isDividing_l10 n10) h x2 = some R → zQ (EH h) G X cl sl 53 [none, none, some (zrf x2), none] [] := by
        intro h x2 cl sl hc hs hm
        unfold j_X1_isDividing_j53 at hm
        refine zQ.s (fun h => zs_iconst (v := 1) o dX1_isDividing_53 (by decide)) ?_
        refine zQ.s (fun h => zs_goto (tgt := 58) o dX1_isDividing_54 (by decide)) ?_
        exact hj58 _ _ _ _ _ (by omega) (by omega) hm
      have hj57 : ∀ (h : zH) (x2 : Nat) (cl sl : Nat), cl + (0) ≤ 1 → sl + (0) ≤ 5 → j_X1_isDividing_j57 (j_X1_isDividing_l10 n10) h x2 = some R → zQ (EH h) G X cl sl 57 [none, none, some (zrf x2), none] [] := by
        intro h x2 cl sl hc hs hm
        unfold j_X1_isDividing_j57 at hm
        refine zQ.s (fun h => zs_iconst (v := 0) o dX1_isDividing_57 (by decide)) ?_
        exact hj58 _ _ _ _ _ (by omega) (by omega) hm
      intro h x1 x2 cl sl hc hs hm
      have hm : j_X1_isDividing_b10 (j_X1_isDividing_l10 n10) h x1 x2 = some R := hm
      unfold j_X1_isDividing_b10 at hm
      refine zQ.s (fun h => zs_aload_n (i := 2) o dX1_isDividing_10 rfl rfl) ?_
      obtain ⟨g1, hm⟩ := gd_e hm
      obtain ⟨y2, c_y2, hm⟩ := bd_e hm
      refine zh_Fi o g1 ml_X1_164_16 (J_J28_hasNext G _ _ _ _  c_y2) dX1_isDividing_11 rfl rfl rfl rfl (by omega) (by omega) ?_
      refine zQ.b (fun h => zs_if_eq (tgt := 62) o dX1_isDividing_16 (by decide)) (fun c => ?_) (fun c => ?_)
      · have hm := if_e1 hm c
        refine zQ.s (fun h => zs_iload_n (i := 1) o dX1_isDividing_62 rfl rfl) ?_
        obtain ⟨g3, hm⟩ := gd_e hm
        refine zh_reti o f dX1_isDividing_63 (b01_e g3).1 (by omega) (by omega) ((so_e hm).trans hR9.symm)
      · have hm := if_e2 hm c
        refine zQ.s (fun h => zs_aload_n (i := 2) o dX1_isDividing_19 rfl rfl) ?_
        obtain ⟨g4, hm⟩ := gd_e hm
        obtain ⟨y5, c_y5, hm⟩ := bd_e hm
        refine zh_Fr o g4 ml_X1_170_16 (J_J28_next G _ _ _ _  c_y5) dX1_isDividing_20 rfl rfl rfl rfl (by omega) (by omega) ?_
        obtain ⟨g6, hm⟩ := gd_e hm
        refine zh_cast (c := 8) o q1468 (by decide) (by decide) g6 dX1_isDividing_25 ?_
        refine zQ.s (fun h => zs_astore_n (i := 3) o dX1_isDividing_28 rfl (by decide) (Or.inr (zc2_ref rfl)) (by simp only [List.set_cons_succ, List.set_cons_zero]; rfl)) ?_
        refine zQ.s (fun h => zs_iload_n (i := 1) o dX1_isDividing_29 rfl rfl) ?_
        refine zQ.b (fun h => zs_if_ne (tgt := 53) o dX1_isDividing_30 (by decide)) (fun c => ?_) (fun c => ?_)
        · have hm := if_e2 hm c
          refine zQ.fg (zl_n (zl_n (zl_s (zl_n zl_0)))) ?_
          exact hj53 _ _ _ _ (by omega) (by omega) hm
        · have hm := if_e1 hm c
          refine zQ.s (fun h => zs_aload_n (i := 3) o dX1_isDividing_33 rfl rfl) ?_
          obtain ⟨g7, hm⟩ := gd_e hm
          refine zh_getI o g7 fl_X1_190_8 rfl dX1_isDividing_34 ?_
          refine zQ.s (fun h => zs_bipush (v := 120) o dX1_isDividing_37 (by decide)) ?_
          refine zQ.b (fun h => zs_icmp_ne (tgt := 57) o dX1_isDividing_39 (by decide)) (fun c => ?_) (fun c => ?_)
          · have hm := if_e2 hm c
            refine zQ.fg (zl_n (zl_n (zl_s (zl_n zl_0)))) ?_
            exact hj57 _ _ _ _ (by omega) (by omega) hm
          · have hm := if_e1 hm c
            refine zQ.s (fun h => zs_aload_n (i := 3) o dX1_isDividing_42 rfl rfl) ?_
            obtain ⟨g8, hm⟩ := gd_e hm
            refine zh_getR o g8 fl_X1_220_8 rfl dX1_isDividing_43 ?_
            obtain ⟨g9, hm⟩ := gd_e hm
            refine zh_getI o g9 fl_X1_247_4 rfl dX1_isDividing_46 ?_
            refine zQ.s (fun h => zs_iconst (v := 5) o dX1_isDividing_49 (by decide)) ?_
            refine zQ.b (fun h => zs_icmp_ne (tgt := 57) o dX1_isDividing_50 (by decide)) (fun c => ?_) (fun c => ?_)
            · have hm := if_e2 hm c
              refine zQ.fg (zl_n (zl_n (zl_s (zl_n zl_0)))) ?_
              exact hj57 _ _ _ _ (by omega) (by omega) hm
            · have hm := if_e1 hm c
              refine zQ.fg (zl_n (zl_n (zl_s (zl_n zl_0)))) ?_
              exact hj53 _ _ _ _ (by omega) (by omega) hm
  unfold j_X1_isDividing at hm
  refine zQ.s (fun h => zs_iconst (v := 0) o dX1_isDividing_0 (by decide)) ?_
  refine zQ.s (fun h => zs_istore_n (i := 1) o dX1_isDividing_1 rfl (by decide) (Or.inr (zc2_ref rfl)) (by simp only [List.set_cons_succ, List.set_cons_zero]; rfl)) ?_
  refine zQ.s (fun h => zs_aload_n (i := 0) o dX1_isDividing_2 rfl rfl) ?_
  obtain ⟨g1, hm⟩ := gd_e hm
  refine zh_getR o g1 fl_X1_79_1 rfl dX1_isDividing_3 ?_
  obtain ⟨g2, hm⟩ := gd_e hm
  obtain ⟨y3, c_y3, hm⟩ := bd_e hm
  refine zh_Ur o g2 ml_X1_160 (J_J5_iterator G _ _ _ _  c_y3) dX1_isDividing_6 rfl rfl rfl rfl (by omega) (by omega) ?_
  refine zQ.s (fun h => zs_astore_n (i := 2) o dX1_isDividing_9 rfl (by decide) (Or.inr rfl) (by simp only [List.set_cons_succ, List.set_cons_zero]; rfl)) ?_
  refine zQ.fg (zl_n (zl_s (zl_s (zl_n zl_0)))) ?_
  exact hl10 18 (Nat.le_refl _) _ _ _ _ _ (by omega) (by omega) hm

def j_X1_hasOperands_j62 (h : zH) (s0 : Int32) : Option (zH × Int32) :=
  gd (b01 s0) <|
  some (h, s0)
def j_X1_hasOperands_j57 (h : zH) : Option (zH × Int32) :=
  j_X1_hasOperands_j62 h (1 : Int32)
def j_X1_hasOperands_j61 (h : zH) : Option (zH × Int32) :=
  j_X1_hasOperands_j62 h (0 : Int32)
def j_X1_hasOperands_j31 (h : zH) (x0 : Nat) (x1 : Nat) (x2 : Nat) (s0 : Int32) : Option (zH × Int32) :=
  if s0 = (0 : Int32) then
    j_X1_hasOperands_j61 h
  else
    gd (kd h x2 4) <|
    bd (j_X4_needsBToBegin h x2) fun y2 =>
    if y2.2 = (0 : Int32) then
      j_X1_hasOperands_j57 y2.1
    else
      gd (kd y2.1 x0 1) <|
      gd (kd y2.1 x1 8) <|
      gd (kd y2.1 (hR y2.1 1 10 x0) 11) <|
      bd (j_J3_get y2.1 (hR y2.1 1 10 x0) (hI y2.1 8 11 x1)) fun y6 =>
      if y6.2 = (0 : Int32) then
        j_X1_hasOperands_j61 y6.1
      else
        j_X1_hasOperands_j57 y6.1
def j_X1_hasOperands_j26 (h : zH) (x0 : Nat) (x1 : Nat) (x2 : Nat) : Option (zH × Int32) :=
  j_X1_hasOperands_j31 h x0 x1 x2 (1 : Int32)
def j_X1_hasOperands (h : zH) (p : Nat) (a1 : Nat) : Option (zH × Int32) :=
  gd (kd h a1 8) <|
  lt (hR h 8 0 a1) fun r2 =>
  gd (kd h r2 4) <|
  bd (j_X4_needsA h r2) fun y4 =>
  if y4.2 = (0 : Int32) then
    j_X1_hasOperands_j26 y4.1 p a1 r2
  else
    gd (kd y4.1 p 1) <|
    gd (kd y4.1 a1 8) <|
    gd (kd y4.1 (hR y4.1 1 10 p) 11) <|
    bd (j_J3_get y4.1 (hR y4.1 1 10 p) (hI y4.1 8 10 a1)) fun y8 =>
    if y8.2 = (0 : Int32) then
      j_X1_hasOperands_j31 y8.1 p a1 r2 (0 : Int32)
    else
      j_X1_hasOperands_j26 y8.1 p a1 r2

set_option maxHeartbeats 40000000 in
theorem J_X1_hasOperands (G : zG) (h : zH) (p : Nat) (a1 : Nat) (V : Int32) (h9 : zH) (z_ad : ("java/util/BitSet", "$assertionsDisabled", "Z", .int 1) ∈ zGz G) (hm : j_X1_hasOperands h p a1 = some (h9, V)) : zJi G yX1_hasOperands cX1_hasOperands 4 (some .boolean) 4 0 0 [zrf p, zrf a1] h V h9 := by
  refine zCo.st [some (zrf p), some (zrf a1), none, none] rfl rfl (by simp only [zarg_r, zarg_i, zarg_l, zarg_0]; rfl) (fun X o f0 hin hw0 => ?_)
  have f := f0.e
  have hin : (Xt X).name = "hasOperands" := hin
  refine (?_ : zQ (EH h) G X 0 0 0 [some (zrf p), some (zrf a1), none, none] []) h rfl hw0
  clear hw0
  generalize hR9 : ((h9, V) : (zH × Int32)) = R at hm
  have hj62 : ∀ (h : zH) (s0 : Int32) (cl sl : Nat), cl + (0) ≤ 0 → sl + (0) ≤ 0 → j_X1_hasOperands_j62 h s0 = some R → zQ (EH h) G X cl sl 62 [none, none, none, none] [.int s0] := by
    intro h s0 cl sl hc hs hm
    unfold j_X1_hasOperands_j62 at hm
    obtain ⟨g1, hm⟩ := gd_e hm
    refine zh_reti o f dX1_hasOperands_62 (b01_e g1).1 (by omega) (by omega) ((so_e hm).trans hR9.symm)
  have hj61 : ∀ (h : zH) (cl sl : Nat), cl + (0) ≤ 0 → sl + (0) ≤ 0 → j_X1_hasOperands_j61 h = some R → zQ (EH h) G X cl sl 61 [none, none, none, none] [] := by
    intro h cl sl hc hs hm
    unfold j_X1_hasOperands_j61 at hm
    refine zQ.s (fun h => zs_iconst (v := 0) o dX1_hasOperands_61 (by decide)) ?_
    exact hj62 _ _ _ _ (by omega) (by omega) hm
  have hj57 : ∀ (h : zH) (cl sl : Nat), cl + (0) ≤ 0 → sl + (0) ≤ 0 → j_X1_hasOperands_j57 h = some R → zQ (EH h) G X cl sl 57 [none, none, none, none] [] := by
    intro h cl sl hc hs hm
    unfold j_X1_hasOperands_j57 at hm
    refine zQ.s (fun h => zs_iconst (v := 1) o dX1_hasOperands_57 (by decide)) ?_
    refine zQ.s (fun h => zs_goto (tgt := 62) o dX1_hasOperands_58 (by decide)) ?_
    exact hj62 _ _ _ _ (by omega) (by omega) hm
  have hj31 : ∀ (h : zH) (x0 : Nat) (x1 : Nat) (x2 : Nat) (s0 : Int32) (cl sl : Nat), cl + (0) ≤ 0 → sl + (0) ≤ 0 → j_X1_hasOperands_j31 h x0 x1 x2 s0 = some R → zQ (EH h) G X cl sl 31 [some (zrf x0), some (zrf x1), some (zrf x2), none] [.int s0] := by
    intro h x0 x1 x2 s0 cl sl hc hs hm
    unfold j_X1_hasOperands_j31 at hm
    refine zQ.s (fun h => zs_istore_n (i := 3) o dX1_hasOperands_31 rfl (by decide) (Or.inr (zc2_ref rfl)) (by simp only [List.set_cons_succ, List.set_cons_zero]; rfl)) ?_
    refine zQ.s (fun h => zs_iload_n (i := 3) o dX1_hasOperands_32 rfl rfl) ?_
    refine zQ.b (fun h => zs_if_eq (tgt := 61) o dX1_hasOperands_33 (by decide)) (fun c => ?_) (fun c => ?_)
    · have hm := if_e1 hm c
      refine zQ.fg (zl_n (zl_n (zl_n (zl_n zl_0)))) ?_
      exact hj61 _ _ _ (by omega) (by omega) hm
    · have hm := if_e2 hm c
      refine zQ.s (fun h => zs_aload_n (i := 2) o dX1_hasOperands_36 rfl rfl) ?_
      obtain ⟨g1, hm⟩ := gd_e hm
      obtain ⟨y2, c_y2, hm⟩ := bd_e hm
      refine zh_Vi o g1 ml_X1_464 (J_X4_needsBToBegin G _ _ _ _  c_y2) dX1_hasOperands_37 rfl rfl rfl rfl (by omega) (by omega) ?_
      refine zQ.b (fun h => zs_if_eq (tgt := 57) o dX1_hasOperands_40 (by decide)) (fun c => ?_) (fun c => ?_)
      · have hm := if_e1 hm c
        refine zQ.fg (zl_n (zl_n (zl_n (zl_n zl_0)))) ?_
        exact hj57 _ _ _ (by omega) (by omega) hm
      · have hm := if_e2 hm c
        refine zQ.s (fun h => zs_aload_n (i := 0) o dX1_hasOperands_43 rfl rfl) ?_
        obtain ⟨g3, hm⟩ := gd_e hm
        refine zh_getR o g3 fl_X1_56_1 rfl dX1_hasOperands_44 ?_
        refine zQ.s (fun h => zs_aload_n (i := 1) o dX1_hasOperands_47 rfl rfl) ?_
        obtain ⟨g4, hm⟩ := gd_e hm
        refine zh_getI o g4 fl_X1_244_8 rfl dX1_hasOperands_48 ?_
        obtain ⟨g5, hm⟩ := gd_e hm
        obtain ⟨y6, c_y6, hm⟩ := bd_e hm
        refine zh_Vi o g5 ml_X1_359 (J_J3_get G _ _ _ _ _ z_ad c_y6) dX1_hasOperands_51 rfl rfl rfl rfl (by omega) (by omega) ?_
        refine zQ.b (fun h => zs_if_eq (tgt := 61) o dX1_hasOperands_54 (by decide)) (fun c => ?_) (fun c => ?_)
        · have hm := if_e1 hm c
          refine zQ.fg (zl_n (zl_n (zl_n (zl_n zl_0)))) ?_
          exact hj61 _ _ _ (by omega) (by omega) hm
        · have hm := if_e2 hm c
          refine zQ.fg (zl_n (zl_n (zl_n (zl_n zl_0)))) ?_
          exact hj57 _ _ _ (by omega) (by omega) hm
  have hj26 : ∀ (h : zH) (x0 : Nat) (x1 : Nat) (x2 : Nat) (cl sl : Nat), cl + (0) ≤ 0 → sl + (0) ≤ 0 → j_X1_hasOperands_j26 h x0 x1 x2 = some R → zQ (EH h) G X cl sl 26 [some (zrf x0), some (zrf x1), some (zrf x2), none] [] := by
    intro h x0 x1 x2 cl sl hc hs hm
    unfold j_X1_hasOperands_j26 at hm
    refine zQ.s (fun h => zs_iconst (v := 1) o dX1_hasOperands_26 (by decide)) ?_
    refine zQ.s (fun h => zs_goto (tgt := 31) o dX1_hasOperands_27 (by decide)) ?_
    exact hj31 _ _ _ _ _ _ _ (by omega) (by omega) hm
  unfold j_X1_hasOperands at hm
  refine zQ.s (fun h => zs_aload_n (i := 1) o dX1_hasOperands_0 rfl rfl) ?_
  obtain ⟨g1, hm⟩ := gd_e hm
  refine zh_getR o g1 fl_X1_220_8 rfl dX1_hasOperands_1 ?_
  obtain ⟨r2, e_r2, hm⟩ := lt_e hm
  refine zQ.nmr e_r2 ?_
  refine zQ.s (fun h => zs_astore_n (i := 2) o dX1_hasOperands_4 rfl (by decide) (Or.inr (zc2_ref rfl)) (by simp only [List.set_cons_succ, List.set_cons_zero]; rfl)) ?_
  refine zQ.s (fun h => zs_aload_n (i := 2) o dX1_hasOperands_5 rfl rfl) ?_
  obtain ⟨g3, hm⟩ := gd_e hm
  obtain ⟨y4, c_y4, hm⟩ := bd_e hm
  refine zh_Vi o g3 ml_X1_461 (J_X4_needsA G _ _ _ _  c_y4) dX1_hasOperands_6 rfl rfl rfl rfl (by omega) (by omega) ?_
  refine zQ.b (fun h => zs_if_eq (tgt := 26) o dX1_hasOperands_9 (by decide)) (fun c => ?_) (fun c => ?_)
  · have hm := if_e1 hm c
    exact hj26 _ _ _ _ _ _ (by omega) (by omega) hm
  · have hm := if_e2 hm c
    refine zQ.s (fun h => zs_aload_n (i := 0) o dX1_hasOperands_12 rfl rfl) ?_
    obtain ⟨g5, hm⟩ := gd_e hm
    refine zh_getR o g5 fl_X1_56_1 rfl dX1_hasOperands_13 ?_
    refine zQ.s (fun h => zs_aload_n (i := 1) o dX1_hasOperands_16 rfl rfl) ?_
    obtain ⟨g6, hm⟩ := gd_e hm
    refine zh_getI o g6 fl_X1_270_8 rfl dX1_hasOperands_17 ?_
    obtain ⟨g7, hm⟩ := gd_e hm
    obtain ⟨y8, c_y8, hm⟩ := bd_e hm
    refine zh_Vi o g7 ml_X1_359 (J_J3_get G _ _ _ _ _ z_ad c_y8) dX1_hasOperands_20 rfl rfl rfl rfl (by omega) (by omega) ?_
    refine zQ.b (fun h => zs_if_eq (tgt := 30) o dX1_hasOperands_23 (by decide)) (fun c => ?_) (fun c => ?_)
    · have hm := if_e1 hm c
      refine zQ.s (fun h => zs_iconst (v := 0) o dX1_hasOperands_30 (by decide)) ?_
      exact hj31 _ _ _ _ _ _ _ (by omega) (by omega) hm
    · have hm := if_e2 hm c
      exact hj26 _ _ _ _ _ _ (by omega) (by omega) hm

def j_X1_takeFrom_j26 (h : zH) : Option (zH × Int32) :=
  some (h, (0 : Int32))
def j_X1_takeFrom (h : zH) (p : Nat) (a1 : Nat) (a2 : Nat) : Option (zH × Int32) :=
  gd (kd h a2 8) <|
  gd (kd h (hR h 8 0 a2) 4) <|
  if (hI h 4 0 (hR h 8 0 a2)) = (11 : Int32) then
    j_X1_takeFrom_j26 h
  else
    gd (kd h p 1) <|
    gd (kd h a2 8) <|
    gd (kd h (hR h 1 10 p) 11) <|
    bd (j_J3_get h (hR h 1 10 p) (hI h 8 11 a2)) fun y6 =>
    if y6.2 = (0 : Int32) then
      j_X1_takeFrom_j26 y6.1
    else
      gd (kd y6.1 p 1) <|
      gd (kd y6.1 p 1) <|
      gd (wr y6.1 p) <|
      lt (pI y6.1 1 35 p ((hI y6.1 1 35 p) + (1 : Int32))) fun S10 =>
      gd (kd S10 a1 8) <|
      gd (wr S10 a1) <|
      lt (pR S10 8 21 a1 a2) fun S13 =>
      gd (kd S13 p 1) <|
      gd (kd S13 a2 8) <|
      gd (kd S13 (hR S13 1 9 p) 201) <|
      gd (inb (hI S13 8 11 a2) (zN S13 (hR S13 1 9 p))) <|
      gd (kd S13 a1 8) <|
      gd (wr S13 a1) <|
      lt (pI S13 8 18 a1 (hI S13 201 (ix (hI S13 8 11 a2)) (hR S13 1 9 p))) fun S20 =>
      gd (kd S20 p 1) <|
      gd (kd S20 a1 8) <|
      bd (j_X8_begin S20 a1 (hI S20 1 26 p) (1 : Int32)) fun y23 =>
      some (y23, (1 : Int32))

set_option maxHeartbeats 40000000 in
theorem J_X1_takeFrom (G : zG) (h : zH) (p : Nat) (a1 : Nat) (a2 : Nat) (V : Int32) (h9 : zH) (z_ad : ("java/util/BitSet", "$assertionsDisabled", "Z", .int 1) ∈ zGz G) (hm : j_X1_takeFrom h p a1 a2 = some (h9, V)) : zJi G yX1_takeFrom cX1_takeFrom 3 (some .boolean) 2 0 0 [zrf p, zrf a1, zrf a2] h V h9 := by
  refine zCo.st [some (zrf p), some (zrf a1), some (zrf a2)] rfl rfl (by simp only [zarg_r, zarg_i, zarg_l, zarg_0]; rfl) (fun X o f0 hin hw0 => ?_)
  have f := f0.e
  have hin : (Xt X).name = "takeFrom" := hin
  refine (?_ : zQ (EH h) G X 0 0 0 [some (zrf p), some (zrf a1), some (zrf a2)] []) h rfl hw0
  clear hw0
  generalize hR9 : ((h9, V) : (zH × Int32)) = R at hm
  have hj26 : ∀ (h : zH) (cl sl : Nat), cl + (0) ≤ 0 → sl + (0) ≤ 0 → j_X1_takeFrom_j26 h = some R → zQ (EH h) G X cl sl 26 [none, none, none] [] := by
    intro h cl sl hc hs hm
    unfold j_X1_takeFrom_j26 at hm
    refine zQ.s (fun h => zs_iconst (v := 0) o dX1_takeFrom_26 (by decide)) ?_
    refine zh_reti o f dX1_takeFrom_27 rfl (by omega) (by omega) ((so_e hm).trans hR9.symm)
  unfold j_X1_takeFrom at hm
  refine zQ.s (fun h => zs_aload_n (i := 2) o dX1_takeFrom_0 rfl rfl) ?_
  obtain ⟨g1, hm⟩ := gd_e hm
  refine zh_getR o g1 fl_X1_220_8 rfl dX1_takeFrom_1 ?_
  obtain ⟨g2, hm⟩ := gd_e hm
  refine zh_getI o g2 fl_X1_247_4 rfl dX1_takeFrom_4 ?_
  refine zQ.s (fun h => zs_bipush (v := 11) o dX1_takeFrom_7 (by decide)) ?_
  refine zQ.b (fun h => zs_icmp_eq (tgt := 26) o dX1_takeFrom_9 (by decide)) (fun c => ?_) (fun c => ?_)
  · have hm := if_e1 hm c
    refine zQ.fg (zl_n (zl_n (zl_n zl_0))) ?_
    exact hj26 _ _ _ (by omega) (by omega) hm
  · have hm := if_e2 hm c
    refine zQ.s (fun h => zs_aload_n (i := 0) o dX1_takeFrom_12 rfl rfl) ?_
    obtain ⟨g3, hm⟩ := gd_e hm
    refine zh_getR o g3 fl_X1_56_1 rfl dX1_takeFrom_13 ?_
    refine zQ.s (fun h => zs_aload_n (i := 2) o dX1_takeFrom_16 rfl rfl) ?_
    obtain ⟨g4, hm⟩ := gd_e hm
    refine zh_getI o g4 fl_X1_244_8 rfl dX1_takeFrom_17 ?_
    obtain ⟨g5, hm⟩ := gd_e hm
    obtain ⟨y6, c_y6, hm⟩ := bd_e hm
    refine zh_Vi o g5 ml_X1_359 (J_J3_get G _ _ _ _ _ z_ad c_y6) dX1_takeFrom_20 rfl rfl rfl rfl (by omega) (by omega) ?_
    refine zQ.b (fun h => zs_if_ne (tgt := 28) o dX1_takeFrom_23 (by decide)) (fun c => ?_) (fun c => ?_)
    · have hm := if_e2 hm c
      refine zQ.s (fun h => zs_aload_n (i := 0) o dX1_takeFrom_28 rfl rfl) ?_
      refine zQ.s (fun h => zs_dup o dX1_takeFrom_29 (by first | rfl | exact zrf_cat _)) ?_
      obtain ⟨g7, hm⟩ := gd_e hm
      refine zh_getI o g7 fl_X1_486_1 rfl dX1_takeFrom_30 ?_
      refine zQ.s (fun h => zs_iconst (v := 1) o dX1_takeFrom_33 (by decide)) ?_
      refine zQ.s (fun h => zs_iadd o dX1_takeFrom_34) ?_
      obtain ⟨g8, hm⟩ := gd_e hm
      obtain ⟨g9, hm⟩ := gd_e hm
      obtain ⟨S10, e_S10, hm⟩ := lt_e hm
      refine zh_putI o g8 g9 fl_X1_486_1 rfl rfl ⟨rfl, rfl⟩ dX1_takeFrom_35 e_S10 ?_
      refine zQ.s (fun h => zs_aload_n (i := 1) o dX1_takeFrom_38 rfl rfl) ?_
      refine zQ.s (fun h => zs_aload_n (i := 2) o dX1_takeFrom_39 rfl rfl) ?_
      obtain ⟨g11, hm⟩ := gd_e hm
      obtain ⟨g12, hm⟩ := gd_e hm
      obtain ⟨S13, e_S13, hm⟩ := lt_e hm
      refine zh_putR o g11 g12 fl_X1_260_8 rfl rfl dX1_takeFrom_40 e_S13 ?_
      refine zQ.s (fun h => zs_aload_n (i := 1) o dX1_takeFrom_43 rfl rfl) ?_
      refine zQ.s (fun h => zs_aload_n (i := 0) o dX1_takeFrom_44 rfl rfl) ?_
      obtain ⟨g14, hm⟩ := gd_e hm
      refine zh_getR o g14 fl_X1_50_1 rfl dX1_takeFrom_45 ?_
      refine zQ.s (fun h => zs_aload_n (i := 2) o dX1_takeFrom_48 rfl rfl) ?_
      obtain ⟨g15, hm⟩ := gd_e hm
      refine zh_getI o g15 fl_X1_244_8 rfl dX1_takeFrom_49 ?_
      obtain ⟨g16, hm⟩ := gd_e hm
      obtain ⟨g17, hm⟩ := gd_e hm
      refine zh_iald o g16 g17 dX1_takeFrom_52 ?_
      obtain ⟨g18, hm⟩ := gd_e hm
      obtain ⟨g19, hm⟩ := gd_e hm
      obtain ⟨S20, e_S20, hm⟩ := lt_e hm
      refine zh_putI o g18 g19 fl_X1_264_8 rfl rfl ⟨rfl, rfl⟩ dX1_takeFrom_53 e_S20 ?_
      refine zQ.s (fun h => zs_aload_n (i := 1) o dX1_takeFrom_56 rfl rfl) ?_
      refine zQ.s (fun h => zs_aload_n (i := 0) o dX1_takeFrom_57 rfl rfl) ?_
      obtain ⟨g21, hm⟩ := gd_e hm
      refine zh_getI o g21 fl_X1_153_1 rfl dX1_takeFrom_58 ?_
      refine zQ.s (fun h => zs_iconst (v := 1) o dX1_takeFrom_61 (by decide)) ?_
      obtain ⟨g22, hm⟩ := gd_e hm
      obtain ⟨y23, c_y23, hm⟩ := bd_e hm
      refine zh_Vv o g22 ml_X1_473 (J_X8_begin G _ _ _ _ _  c_y23) dX1_takeFrom_62 rfl rfl rfl rfl (by omega) (by omega) ?_
      refine zQ.s (fun h => zs_iconst (v := 1) o dX1_takeFrom_65 (by decide)) ?_
      refine zh_reti o f dX1_takeFrom_66 rfl (by omega) (by omega) ((so_e hm).trans hR9.symm)
    · have hm := if_e1 hm c
      refine zQ.fg (zl_n (zl_n (zl_n zl_0))) ?_
      exact hj26 _ _ _ (by omega) (by omega) hm

def j_X1_isAskedFor_j48 (k10 : zH → Int32 → Int32 → Nat → Option (zH × Int32)) (h : zH) (x1 : Int32) (x3 : Nat) (s0 : Int32) : Option (zH × Int32) :=
  k10 h x1 s0 x3
def j_X1_isAskedFor_j43 (k10 : zH → Int32 → Int32 → Nat → Option (zH × Int32)) (h : zH) (x1 : Int32) (x3 : Nat) : Option (zH × Int32) :=
  j_X1_isAskedFor_j48 k10 h x1 x3 (1 : Int32)
def j_X1_isAskedFor_b10 (k10 : zH → Int32 → Int32 → Nat → Option (zH × Int32)) (h : zH) (x1 : Int32) (x2 : Int32) (x3 : Nat) : Option (zH × Int32) :=
  gd (kd h x3 16) <|
  bd (j_J28_hasNext h x3) fun y2 =>
  if y2.2 = (0 : Int32) then
    gd (b01 x2) <|
    some (y2.1, x2)
  else
    gd (kd y2.1 x3 16) <|
    bd (j_J28_next y2.1 x3) fun y5 =>
    gd (kd y5.1 y5.2 7) <|
    if x2 = (0 : Int32) then
      gd (kd y5.1 y5.2 7) <|
      if (hI y5.1 7 0 y5.2) = x1 then
        j_X1_isAskedFor_j43 k10 y5.1 x1 x3
      else
        j_X1_isAskedFor_j48 k10 y5.1 x1 x3 (0 : Int32)
    else
      j_X1_isAskedFor_j43 k10 y5.1 x1 x3
def j_X1_isAskedFor_l10 : Nat → zH → Int32 → Int32 → Nat → Option (zH × Int32)
  | 0 => fun _ _ _ _ => none
  | n + 1 => j_X1_isAskedFor_b10 (j_X1_isAskedFor_l10 n)
def j_X1_isAskedFor (h : zH) (p : Nat) (a1 : Int32) : Option (zH × Int32) :=
  gd (kd h p 1) <|
  gd (kd h (hR h 1 25 p) 13) <|
  bd (j_J5_iterator h (hR h 1 25 p)) fun y3 =>
  j_X1_isAskedFor_l10 4 y3.1 a1 (0 : Int32) y3.2

set_option maxHeartbeats 40000000 in
theorem J_X1_isAskedFor (G : zG) (h : zH) (p : Nat) (a1 : Int32) (V : Int32) (h9 : zH) (hm : j_X1_isAskedFor h p a1 = some (h9, V)) : zJi G yX1_isAskedFor cX1_isAskedFor 5 (some .boolean) 5 1 5 [zrf p, .int a1] h V h9 := by
  refine zCo.st [some (zrf p), some (.int a1), none, none, none] rfl rfl (by simp only [zarg_r, zarg_i, zarg_l, zarg_0]; rfl) (fun X o f0 hin hw0 => ?_)
  have f := f0.e
  have hin : (Xt X).name = "isAskedFor" := hin
  refine (?_ : zQ (EH h) G X 0 0 0 [some (zrf p), some (.int a1), none, none, none] []) h rfl hw0
  clear hw0
  generalize hR9 : ((h9, V) : (zH × Int32)) = R at hm
  have hl10 : ∀ (n10 : Nat), n10 ≤ 4 → ∀ (h : zH) (x1 : Int32) (x2 : Int32) (x3 : Nat) (cl sl : Nat), cl + (0) ≤ 1 → sl + (0) ≤ 5 → j_X1_isAskedFor_l10 n10 h x1 x2 x3 = some R → zQ (EH h) G X cl sl 10 [none, some (.int x1), some (.int x2), some (zrf x3), none] [] := by
    intro n10
    induction n10 with
    | zero => intro _ h x1 x2 x3 cl sl _ _ hm; exact no_e hm
    | succ n10 ih =>
      intro hf10
      have ih10 := ih (by omega)
      have hj48 : ∀ (h : zH) (x1 : Int32) (x3 : Nat) (s0 : Int32) (cl sl : Nat), cl + (0) ≤ 1 → sl + (0) ≤ 5 → j_X1_isAskedFor_j48 (j_X1_isAskedFor_l10 n10) h x1 x3 s0 = some R → zQ (EH h) G X cl sl 48 [none, some (.int x1), none, some (zrf x3), none] [.int s0] := by
        intro h x1 x3 s0 cl sl hc hs hm
        unfold j_X1_isAskedFor_j48 at hm
        refine zQ.s (fun h => zs_istore_n (i := 2) o dX1_isAskedFor_48 rfl (by decide) (Or.inr rfl) (by simp only [List.set_cons_succ, List.set_cons_zero]; rfl)) ?_
        refine zQ.s (fun h => zs_goto (tgt := 10) o dX1_isAskedFor_49 (by decide)) ?_
        exact ih10 _ _ _ _ _ _ (by omega) (by omega) hm
      have hj43 : ∀ (h : zH) (x1 : Int32) (x3 : Nat) (cl sl : Nat), cl + (0) ≤ 1 → sl + (0) ≤ 5 → j_X1_isAskedFor_j43 (j_X1_isAskedFor_l10 n10) h x1 x3 = some R → zQ (EH h) G X cl sl 43 [none, some (.int x1), none, some (zrf x3), none] [] := by
        intro h x1 x3 cl sl hc hs hm
        unfold j_X1_isAskedFor_j43 at hm
        refine zQ.s (fun h => zs_iconst (v := 1) o dX1_isAskedFor_43 (by decide)) ?_
        refine zQ.s (fun h => zs_goto (tgt := 48) o dX1_isAskedFor_44 (by decide)) ?_
        exact hj48 _ _ _ _ _ _ (by omega) (by omega) hm
      intro h x1 x2 x3 cl sl hc hs hm
      have hm : j_X1_isAskedFor_b10 (j_X1_isAskedFor_l10 n10) h x1 x2 x3 = some R := hm
      unfold j_X1_isAskedFor_b10 at hm
      refine zQ.s (fun h => zs_aload_n (i := 3) o dX1_isAskedFor_10 rfl rfl) ?_
      obtain ⟨g1, hm⟩ := gd_e hm
      obtain ⟨y2, c_y2, hm⟩ := bd_e hm
      refine zh_Fi o g1 ml_X1_164_16 (J_J28_hasNext G _ _ _ _  c_y2) dX1_isAskedFor_11 rfl rfl rfl rfl (by omega) (by omega) ?_
      refine zQ.b (fun h => zs_if_eq (tgt := 52) o dX1_isAskedFor_16 (by decide)) (fun c => ?_) (fun c => ?_)
      · have hm := if_e1 hm c
        refine zQ.s (fun h => zs_iload_n (i := 2) o dX1_isAskedFor_52 rfl rfl) ?_
        obtain ⟨g3, hm⟩ := gd_e hm
        refine zh_reti o f dX1_isAskedFor_53 (b01_e g3).1 (by omega) (by omega) ((so_e hm).trans hR9.symm)
      · have hm := if_e2 hm c
        refine zQ.s (fun h => zs_aload_n (i := 3) o dX1_isAskedFor_19 rfl rfl) ?_
        obtain ⟨g4, hm⟩ := gd_e hm
        obtain ⟨y5, c_y5, hm⟩ := bd_e hm
        refine zh_Fr o g4 ml_X1_170_16 (J_J28_next G _ _ _ _  c_y5) dX1_isAskedFor_20 rfl rfl rfl rfl (by omega) (by omega) ?_
        obtain ⟨g6, hm⟩ := gd_e hm
        refine zh_cast (c := 7) o q1663 (by decide) (by decide) g6 dX1_isAskedFor_25 ?_
        refine zQ.s (fun h => zs_astore (i := 4) o dX1_isAskedFor_28 (by decide) (Or.inr (zc2_ref rfl)) (by simp only [List.set_cons_succ, List.set_cons_zero]; rfl)) ?_
        refine zQ.s (fun h => zs_iload_n (i := 2) o dX1_isAskedFor_30 rfl rfl) ?_
        refine zQ.b (fun h => zs_if_ne (tgt := 43) o dX1_isAskedFor_31 (by decide)) (fun c => ?_) (fun c => ?_)
        · have hm := if_e2 hm c
          refine zQ.fg (zl_n (zl_s (zl_n (zl_s (zl_n zl_0))))) ?_
          exact hj43 _ _ _ _ _ (by omega) (by omega) hm
        · have hm := if_e1 hm c
          refine zQ.s (fun h => zs_aload (i := 4) o dX1_isAskedFor_34 rfl) ?_
          obtain ⟨g7, hm⟩ := gd_e hm
          refine zh_getI o g7 fl_X1_182_7 rfl dX1_isAskedFor_36 ?_
          refine zQ.s (fun h => zs_iload_n (i := 1) o dX1_isAskedFor_39 rfl rfl) ?_
          refine zQ.b (fun h => zs_icmp_ne (tgt := 47) o dX1_isAskedFor_40 (by decide)) (fun c => ?_) (fun c => ?_)
          · have hm := if_e2 hm c
            refine zQ.s (fun h => zs_iconst (v := 0) o dX1_isAskedFor_47 (by decide)) ?_
            refine zQ.fg (zl_n (zl_s (zl_n (zl_s (zl_n zl_0))))) ?_
            exact hj48 _ _ _ _ _ _ (by omega) (by omega) hm
          · have hm := if_e1 hm c
            refine zQ.fg (zl_n (zl_s (zl_n (zl_s (zl_n zl_0))))) ?_
            exact hj43 _ _ _ _ _ (by omega) (by omega) hm
  unfold j_X1_isAskedFor at hm
  refine zQ.s (fun h => zs_iconst (v := 0) o dX1_isAskedFor_0 (by decide)) ?_
  refine zQ.s (fun h => zs_istore_n (i := 2) o dX1_isAskedFor_1 rfl (by decide) (Or.inr rfl) (by simp only [List.set_cons_succ, List.set_cons_zero]; rfl)) ?_
  refine zQ.s (fun h => zs_aload_n (i := 0) o dX1_isAskedFor_2 rfl rfl) ?_
  obtain ⟨g1, hm⟩ := gd_e hm
  refine zh_getR o g1 fl_X1_104_1 rfl dX1_isAskedFor_3 ?_
  obtain ⟨g2, hm⟩ := gd_e hm
  obtain ⟨y3, c_y3, hm⟩ := bd_e hm
  refine zh_Ur o g2 ml_X1_160 (J_J5_iterator G _ _ _ _  c_y3) dX1_isAskedFor_6 rfl rfl rfl rfl (by omega) (by omega) ?_
  refine zQ.s (fun h => zs_astore_n (i := 3) o dX1_isAskedFor_9 rfl (by decide) (Or.inr rfl) (by simp only [List.set_cons_succ, List.set_cons_zero]; rfl)) ?_
  refine zQ.fg (zl_n (zl_s (zl_s (zl_s (zl_n zl_0))))) ?_
  exact hl10 4 (Nat.le_refl _) _ _ _ _ _ _ (by omega) (by omega) hm

def j_X1_readLine_j99 (h : zH) (x0 : Nat) (x1 : Nat) (x2 : Int32) : Option (zH × Int32) :=
  gd (kd h x0 1) <|
  gd (kd h x1 8) <|
  bd (j_X8_waitFor h x1 x2 (hI h 1 26 x0)) fun y3 =>
  some (y3, (1 : Int32))
def j_X1_readLine (h : zH) (p : Nat) (a1 : Nat) : Option (zH × Int32) :=
  gd (kd h a1 8) <|
  lt ((hI h 8 17 a1) / (4 : Int32)) fun v2 =>
  gd (kd h p 1) <|
  gd (kd h (hR h 1 24 p) 201) <|
  gd (inb (irm v2 (4 : Int32)) (zN h (hR h 1 24 p))) <|
  if (hI h 201 (ix (irm v2 (4 : Int32))) (hR h 1 24 p)) = v2 then
    gd (kd h p 1) <|
    gd (kd h p 1) <|
    gd (wr h p) <|
    lt (pL h 1 36 p ((hL h 1 36 p) + (1 : Int64))) fun S29 =>
    gd (kd S29 p 1) <|
    gd (kd S29 a1 8) <|
    bd (j_X8_begin S29 a1 (hI S29 1 26 p) (2 : Int32)) fun y32 =>
    some (y32, (1 : Int32))
  else
    gd (kd h p 1) <|
    bd (j_X1_isAskedFor h p v2) fun y7 =>
    if y7.2 = (0 : Int32) then
      gd (kd y7.1 p 1) <|
      gd (kd y7.1 (hR y7.1 1 25 p) 13) <|
      bd (j_J6_size y7.1 (hR y7.1 1 25 p)) fun y10 =>
      if y10.2 = (2 : Int32) then
        some (y10.1, (0 : Int32))
      else
        gd (kd y10.1 p 1) <|
        gd (kd y10.1 p 1) <|
        gd (wr y10.1 p) <|
        lt (pL y10.1 1 36 p ((hL y10.1 1 36 p) + (1000 : Int64))) fun S14 =>
        gd (kd S14 p 1) <|
        lt (zT S14 + 1) fun r16 =>
        lt (nw S14 7 1 0) fun S17 =>
        gd (kd S17 p 1) <|
        gd (kd S17 p 1) <|
        gd (kd S17 (hR S17 1 23 p) 201) <|
        gd (inb v2 (zN S17 (hR S17 1 23 p))) <|
        gd (nzr r16) <|
        bd (j_X7_init S17 r16 v2 ((hI S17 1 26 p) + (hI S17 201 (ix v2) (hR S17 1 23 p)))) fun y23 =>
        gd (kd y23 (hR S14 1 25 p) 13) <|
        bd (j_J6_addLast y23 (hR S14 1 25 p) r16) fun y25 =>
        j_X1_readLine_j99 y25 p a1 v2
    else
      j_X1_readLine_j99 y7.1 p a1 v2

set_option maxHeartbeats 40000000 in
theorem J_X1_readLine (G : zG) (h : zH) (p : Nat) (a1 : Nat) (V : Int32) (h9 : zH) (hm : j_X1_readLine h p a1 = some (h9, V)) : zJi G yX1_readLine cX1_readLine 3 (some .boolean) 6 3 10 [zrf p, zrf a1] h V h9 := by
  refine zCo.st [some (zrf p), some (zrf a1), none] rfl rfl (by simp only [zarg_r, zarg_i, zarg_l, zarg_0]; rfl) (fun X o f0 hin hw0 => ?_)
  have f := f0.e
  have hin : (Xt X).name = "readLine" := hin
  refine (?_ : zQ (EH h) G X 0 0 0 [some (zrf p), some (zrf a1), none] []) h rfl hw0
  clear hw0
  generalize hR9 : ((h9, V) : (zH × Int32)) = R at hm
  have hj99 : ∀ (h : zH) (x0 : Nat) (x1 : Nat) (x2 : Int32) (cl sl : Nat), cl + (0) ≤ 3 → sl + (0) ≤ 10 → j_X1_readLine_j99 h x0 x1 x2 = some R → zQ (EH h) G X cl sl 99 [some (zrf x0), some (zrf x1), some (.int x2)] [] := by
    intro h x0 x1 x2 cl sl hc hs hm
    unfold j_X1_readLine_j99 at hm
    refine zQ.s (fun h => zs_aload_n (i := 1) o dX1_readLine_99 rfl rfl) ?_
    refine zQ.s (fun h => zs_iload_n (i := 2) o dX1_readLine_100 rfl rfl) ?_
    refine zQ.s (fun h => zs_aload_n (i := 0) o dX1_readLine_101 rfl rfl) ?_
    obtain ⟨g1, hm⟩ := gd_e hm
    refine zh_getI o g1 fl_X1_153_1 rfl dX1_readLine_102 ?_
    obtain ⟨g2, hm⟩ := gd_e hm
    obtain ⟨y3, c_y3, hm⟩ := bd_e hm
    refine zh_Vv o g2 ml_X1_504 (J_X8_waitFor G _ _ _ _ _  c_y3) dX1_readLine_105 rfl rfl rfl rfl (by omega) (by omega) ?_
    refine zQ.s (fun h => zs_iconst (v := 1) o dX1_readLine_108 (by decide)) ?_
    refine zh_reti o f dX1_readLine_109 rfl (by omega) (by omega) ((so_e hm).trans hR9.symm)
  unfold j_X1_readLine at hm
  refine zQ.s (fun h => zs_aload_n (i := 1) o dX1_readLine_0 rfl rfl) ?_
  obtain ⟨g1, hm⟩ := gd_e hm
  refine zh_getI o g1 fl_X1_250_8 rfl dX1_readLine_1 ?_
  refine zQ.s (fun h => zs_iconst (v := 4) o dX1_readLine_4 (by decide)) ?_
  refine zQ.s (fun h => zs_idiv o dX1_readLine_5 (by decide)) ?_
  obtain ⟨v2, e_v2, hm⟩ := lt_e hm
  refine zQ.nmi e_v2 ?_
  refine zQ.s (fun h => zs_istore_n (i := 2) o dX1_readLine_6 rfl (by decide) (Or.inr (zc2_ref rfl)) (by simp only [List.set_cons_succ, List.set_cons_zero]; rfl)) ?_
  refine zQ.s (fun h => zs_aload_n (i := 0) o dX1_readLine_7 rfl rfl) ?_
  obtain ⟨g3, hm⟩ := gd_e hm
  refine zh_getR o g3 fl_X1_101_1 rfl dX1_readLine_8 ?_
  refine zQ.s (fun h => zs_iload_n (i := 2) o dX1_readLine_11 rfl rfl) ?_
  refine zQ.s (fun h => zs_iconst (v := 4) o dX1_readLine_12 (by decide)) ?_
  refine zQ.s (fun h => zs_irem o dX1_readLine_13 (by decide)) ?_
  obtain ⟨g4, hm⟩ := gd_e hm
  obtain ⟨g5, hm⟩ := gd_e hm
  refine zh_iald o g4 g5 dX1_readLine_14 ?_
  refine zQ.s (fun h => zs_iload_n (i := 2) o dX1_readLine_15 rfl rfl) ?_
  refine zQ.b (fun h => zs_icmp_ne (tgt := 40) o dX1_readLine_16 (by decide)) (fun c => ?_) (fun c => ?_)
  · have hm := if_e2 hm c
    refine zQ.s (fun h => zs_aload_n (i := 0) o dX1_readLine_40 rfl rfl) ?_
    refine zQ.s (fun h => zs_iload_n (i := 2) o dX1_readLine_41 rfl rfl) ?_
    obtain ⟨g6, hm⟩ := gd_e hm
    obtain ⟨y7, c_y7, hm⟩ := bd_e hm
    refine zh_Vi o g6 ml_X1_493 (J_X1_isAskedFor G _ _ _ _ _  c_y7) dX1_readLine_42 rfl rfl rfl rfl (by omega) (by omega) ?_
    refine zQ.b (fun h => zs_if_ne (tgt := 99) o dX1_readLine_45 (by decide)) (fun c => ?_) (fun c => ?_)
    · have hm := if_e2 hm c
      exact hj99 _ _ _ _ _ _ (by omega) (by omega) hm
    · have hm := if_e1 hm c
      refine zQ.s (fun h => zs_aload_n (i := 0) o dX1_readLine_48 rfl rfl) ?_
      obtain ⟨g8, hm⟩ := gd_e hm
      refine zh_getR o g8 fl_X1_104_1 rfl dX1_readLine_49 ?_
      obtain ⟨g9, hm⟩ := gd_e hm
      obtain ⟨y10, c_y10, hm⟩ := bd_e hm
      refine zh_Vi o g9 ml_X1_496 (J_J6_size G _ _ _ _  c_y10) dX1_readLine_52 rfl rfl rfl rfl (by omega) (by omega) ?_
      refine zQ.s (fun h => zs_iconst (v := 2) o dX1_readLine_55 (by decide)) ?_
      refine zQ.b (fun h => zs_icmp_ne (tgt := 61) o dX1_readLine_56 (by decide)) (fun c => ?_) (fun c => ?_)
      · have hm := if_e2 hm c
        refine zQ.s (fun h => zs_aload_n (i := 0) o dX1_readLine_61 rfl rfl) ?_
        refine zQ.s (fun h => zs_dup o dX1_readLine_62 (by first | rfl | exact zrf_cat _)) ?_
        obtain ⟨g11, hm⟩ := gd_e hm
        refine zh_getL o g11 fl_X1_489_1 rfl dX1_readLine_63 ?_
        refine zQ.s (fun h => zs_ldc2 o q2081 dX1_readLine_66) ?_
        refine zQ.s (fun h => zs_ladd o dX1_readLine_69) ?_
        obtain ⟨g12, hm⟩ := gd_e hm
        obtain ⟨g13, hm⟩ := gd_e hm
        obtain ⟨S14, e_S14, hm⟩ := lt_e hm
        refine zh_putL o g12 g13 fl_X1_489_1 rfl rfl dX1_readLine_70 e_S14 ?_
        refine zQ.s (fun h => zs_aload_n (i := 0) o dX1_readLine_73 rfl rfl) ?_
        obtain ⟨g15, hm⟩ := gd_e hm
        refine zh_getR o g15 fl_X1_104_1 rfl dX1_readLine_74 ?_
        obtain ⟨r16, e_r16, hm⟩ := lt_e hm
        obtain ⟨S17, e_S17, hm⟩ := lt_e hm
        refine zh_new (N := 2) o nl_X1_174 rfl dX1_readLine_77 (by omega) (by omega) e_S17 ?_
        refine zQ.nmr e_r16 ?_
        refine zQ.s (fun h => zs_dup o dX1_readLine_80 (by first | rfl | exact zrf_cat _)) ?_
        refine zQ.s (fun h => zs_iload_n (i := 2) o dX1_readLine_81 rfl rfl) ?_
        refine zQ.s (fun h => zs_aload_n (i := 0) o dX1_readLine_82 rfl rfl) ?_
        obtain ⟨g18, hm⟩ := gd_e hm
        refine zh_getI o g18 fl_X1_153_1 rfl dX1_readLine_83 ?_
        refine zQ.s (fun h => zs_aload_n (i := 0) o dX1_readLine_86 rfl rfl) ?_
        obtain ⟨g19, hm⟩ := gd_e hm
        refine zh_getR o g19 fl_X1_98_1 rfl dX1_readLine_87 ?_
        refine zQ.s (fun h => zs_iload_n (i := 2) o dX1_readLine_90 rfl rfl) ?_
        obtain ⟨g20, hm⟩ := gd_e hm
        obtain ⟨g21, hm⟩ := gd_e hm
        refine zh_iald o g20 g21 dX1_readLine_91 ?_
        refine zQ.s (fun h => zs_iadd o dX1_readLine_92) ?_
        obtain ⟨g22, hm⟩ := gd_e hm
        obtain ⟨y23, c_y23, hm⟩ := bd_e hm
        refine zh_Iv o g22 ml_X1_501 (J_X7_init G _ _ _ _ _  c_y23) dX1_readLine_93 rfl rfl rfl rfl (by omega) (by omega) ?_
        obtain ⟨g24, hm⟩ := gd_e hm
        obtain ⟨y25, c_y25, hm⟩ := bd_e hm
        refine zh_Vv o g24 ml_X1_503 (J_J6_addLast G _ _ _ _  c_y25) dX1_readLine_96 rfl rfl rfl rfl (by omega) (by omega) ?_
        exact hj99 _ _ _ _ _ _ (by omega) (by omega) hm
      · have hm := if_e1 hm c
        refine zQ.s (fun h => zs_iconst (v := 0) o dX1_readLine_59 (by decide)) ?_
        refine zh_reti o f dX1_readLine_60 rfl (by omega) (by omega) ((so_e hm).trans hR9.symm)
  · have hm := if_e1 hm c
    refine zQ.s (fun h => zs_aload_n (i := 0) o dX1_readLine_19 rfl rfl) ?_
    refine zQ.s (fun h => zs_dup o dX1_readLine_20 (by first | rfl | exact zrf_cat _)) ?_
    obtain ⟨g26, hm⟩ := gd_e hm
    refine zh_getL o g26 fl_X1_489_1 rfl dX1_readLine_21 ?_
    refine zQ.s (fun h => zs_lconst (v := 1) o dX1_readLine_24 (by decide)) ?_
    refine zQ.s (fun h => zs_ladd o dX1_readLine_25) ?_
    obtain ⟨g27, hm⟩ := gd_e hm
    obtain ⟨g28, hm⟩ := gd_e hm
    obtain ⟨S29, e_S29, hm⟩ := lt_e hm
    refine zh_putL o g27 g28 fl_X1_489_1 rfl rfl dX1_readLine_26 e_S29 ?_
    refine zQ.s (fun h => zs_aload_n (i := 1) o dX1_readLine_29 rfl rfl) ?_
    refine zQ.s (fun h => zs_aload_n (i := 0) o dX1_readLine_30 rfl rfl) ?_
    obtain ⟨g30, hm⟩ := gd_e hm
    refine zh_getI o g30 fl_X1_153_1 rfl dX1_readLine_31 ?_
    refine zQ.s (fun h => zs_iconst (v := 2) o dX1_readLine_34 (by decide)) ?_
    obtain ⟨g31, hm⟩ := gd_e hm
    obtain ⟨y32, c_y32, hm⟩ := bd_e hm
    refine zh_Vv o g31 ml_X1_473 (J_X8_begin G _ _ _ _ _  c_y32) dX1_readLine_35 rfl rfl rfl rfl (by omega) (by omega) ?_
    refine zQ.s (fun h => zs_iconst (v := 1) o dX1_readLine_38 (by decide)) ?_
    refine zh_reti o f dX1_readLine_39 rfl (by omega) (by omega) ((so_e hm).trans hR9.symm)

def j_X1_beginLoad_j100 (k13 : zH → Nat → Nat → Nat → Int32 → Nat → Option (zH × Int32)) (h : zH) (x0 : Nat) (x1 : Nat) (x2 : Nat) (x3 : Int32) (x4 : Nat) : Option (zH × Int32) :=
  k13 h x0 x1 x2 x3 x4
def j_X1_beginLoad_j99 (k13 : zH → Nat → Nat → Nat → Int32 → Nat → Option (zH × Int32)) (h : zH) (x0 : Nat) (x1 : Nat) (x3 : Int32) (x4 : Nat) (s0 : Nat) : Option (zH × Int32) :=
  j_X1_beginLoad_j100 k13 h x0 x1 s0 x3 x4
def j_X1_beginLoad_j98 (k13 : zH → Nat → Nat → Nat → Int32 → Nat → Option (zH × Int32)) (h : zH) (x0 : Nat) (x1 : Nat) (x2 : Nat) (x3 : Int32) (x4 : Nat) : Option (zH × Int32) :=
  j_X1_beginLoad_j99 k13 h x0 x1 x3 x4 x2
def j_X1_beginLoad_j72 (k13 : zH → Nat → Nat → Nat → Int32 → Nat → Option (zH × Int32)) (h : zH) (x0 : Nat) (x1 : Nat) (x2 : Nat) (x4 : Nat) (x5 : Nat) (s0 : Int32) : Option (zH × Int32) :=
  gd (kd h x5 8) <|
  bd (j_X8_isEndedStore h x5) fun y2 =>
  if y2.2 = (0 : Int32) then
    j_X1_beginLoad_j98 k13 y2.1 x0 x1 x2 s0 x4
  else
    gd (kd y2.1 x5 8) <|
    gd (kd y2.1 x1 8) <|
    if (hI y2.1 8 17 x5) = (hI y2.1 8 17 x1) then
      j_X1_beginLoad_j99 k13 y2.1 x0 x1 s0 x4 x5
    else
      j_X1_beginLoad_j98 k13 y2.1 x0 x1 x2 s0 x4
def j_X1_beginLoad_j71 (k13 : zH → Nat → Nat → Nat → Int32 → Nat → Option (zH × Int32)) (h : zH) (x0 : Nat) (x1 : Nat) (x2 : Nat) (x4 : Nat) (x5 : Nat) : Option (zH × Int32) :=
  j_X1_beginLoad_j72 k13 h x0 x1 x2 x4 x5 (0 : Int32)
def j_X1_beginLoad_j144 (h : zH) (s0 : Int32) : Option (zH × Int32) :=
  gd (b01 s0) <|
  some (h, s0)
def j_X1_beginLoad_j126 (h : zH) (x0 : Nat) (x1 : Nat) (x2 : Nat) : Option (zH × Int32) :=
  if x2 = 0 then
    gd (kd h x0 1) <|
    bd (j_X1_readLine h x0 x1) fun y4 =>
    j_X1_beginLoad_j144 y4.1 y4.2
  else
    gd (kd h x0 1) <|
    bd (j_X1_takeFrom h x0 x1 x2) fun y2 =>
    j_X1_beginLoad_j144 y2.1 y2.2
def j_X1_beginLoad_b13 (k13 : zH → Nat → Nat → Nat → Int32 → Nat → Option (zH × Int32)) (h : zH) (x0 : Nat) (x1 : Nat) (x2 : Nat) (x3 : Int32) (x4 : Nat) : Option (zH × Int32) :=
  gd (kd h x4 16) <|
  bd (j_J28_hasNext h x4) fun y2 =>
  if y2.2 = (0 : Int32) then
    if x3 = (0 : Int32) then
      gd (kd y2.1 x0 1) <|
      gd (kd y2.1 x1 8) <|
      gd (kd y2.1 (hR y2.1 1 22 x0) 11) <|
      bd (j_J3_get y2.1 (hR y2.1 1 22 x0) (irm (hI y2.1 8 1 x1) (16 : Int32))) fun y6 =>
      if y6.2 = (0 : Int32) then
        j_X1_beginLoad_j126 y6.1 x0 x1 x2
      else
        some (y6.1, (0 : Int32))
    else
      j_X1_beginLoad_j126 y2.1 x0 x1 x2
  else
    gd (kd y2.1 x4 16) <|
    bd (j_J28_next y2.1 x4) fun y8 =>
    gd (kd y8.1 y8.2 8) <|
    gd (kd y8.1 y8.2 8) <|
    gd (kd y8.1 (hR y8.1 8 0 y8.2) 4) <|
    bd (j_X4_isStore y8.1 (hR y8.1 8 0 y8.2)) fun y12 =>
    if y12.2 = (0 : Int32) then
      j_X1_beginLoad_j100 k13 y12.1 x0 x1 x2 x3 x4
    else
      gd (kd y12.1 y8.2 8) <|
      bd (j_X10_isOlderThan y12.1 y8.2 x1) fun y14 =>
      if y14.2 = (0 : Int32) then
        j_X1_beginLoad_j100 k13 y14.1 x0 x1 x2 x3 x4
      else
        if x3 = (0 : Int32) then
          j_X1_beginLoad_j71 k13 y14.1 x0 x1 x2 x4 y8.2
        else
          gd (kd y14.1 y8.2 8) <|
          bd (j_X8_isOver y14.1 y8.2) fun y16 =>
          if y16.2 = (0 : Int32) then
            j_X1_beginLoad_j71 k13 y16.1 x0 x1 x2 x4 y8.2
          else
            j_X1_beginLoad_j72 k13 y16.1 x0 x1 x2 x4 y8.2 (1 : Int32)
def j_X1_beginLoad_l13 : Nat → zH → Nat → Nat → Nat → Int32 → Nat → Option (zH × Int32)
  | 0 => fun _ _ _ _ _ _ => none
  | n + 1 => j_X1_beginLoad_b13 (j_X1_beginLoad_l13 n)
def j_X1_beginLoad (h : zH) (p : Nat) (a1 : Nat) : Option (zH × Int32) :=
  gd (kd h p 1) <|
  gd (kd h (hR h 1 15 p) 13) <|
  bd (j_J5_iterator h (hR h 1 15 p)) fun y3 =>
  j_X1_beginLoad_l13 18 y3.1 p a1 0 (1 : Int32) y3.2

set_option maxHeartbeats 40000000 in
theorem J_X1_beginLoad (G : zG) (h : zH) (p : Nat) (a1 : Nat) (V : Int32) (h9 : zH) (z_ad : ("java/util/BitSet", "$assertionsDisabled", "Z", .int 1) ∈ zGz G) (hm : j_X1_beginLoad h p a1 = some (h9, V)) : zJi G yX1_beginLoad cX1_beginLoad 6 (some .boolean) 7 4 15 [zrf p, zrf a1] h V h9 := by
  refine zCo.st [some (zrf p), some (zrf a1), none, none, none, none] rfl rfl (by simp only [zarg_r, zarg_i, zarg_l, zarg_0]; rfl) (fun X o f0 hin hw0 => ?_)
  have f := f0.e
  have hin : (Xt X).name = "beginLoad" := hin
  refine (?_ : zQ (EH h) G X 0 0 0 [some (zrf p), some (zrf a1), none, none, none, none] []) h rfl hw0
  clear hw0
  generalize hR9 : ((h9, V) : (zH × Int32)) = R at hm
  have hj144 : ∀ (h : zH) (s0 : Int32) (cl sl : Nat), cl + (0) ≤ 4 → sl + (0) ≤ 15 → j_X1_beginLoad_j144 h s0 = some R → zQ (EH h) G X cl sl 144 [none, none, none, none, none, none] [.int s0] := by
    intro h s0 cl sl hc hs hm
    unfold j_X1_beginLoad_j144 at hm
    obtain ⟨g1, hm⟩ := gd_e hm
    refine zh_reti o f dX1_beginLoad_144 (b01_e g1).1 (by omega) (by omega) ((so_e hm).trans hR9.symm)
  have hj126 : ∀ (h : zH) (x0 : Nat) (x1 : Nat) (x2 : Nat) (cl sl : Nat), cl + (3) ≤ 4 → sl + (10) ≤ 15 → j_X1_beginLoad_j126 h x0 x1 x2 = some R → zQ (EH h) G X cl sl 126 [some (zrf x0), some (zrf x1), some (zrf x2), none, none, none] [] := by
    intro h x0 x1 x2 cl sl hc hs hm
    unfold j_X1_beginLoad_j126 at hm
    refine zQ.s (fun h => zs_aload_n (i := 2) o dX1_beginLoad_126 rfl rfl) ?_
    refine zQ.b (fun h => zs_ifnonnull (tgt := 138) o dX1_beginLoad_127 (by decide)) (fun c => ?_) (fun c => ?_)
    · have hm := if_e2 hm c
      refine zQ.s (fun h => zs_aload_n (i := 0) o dX1_beginLoad_138 rfl rfl) ?_
      refine zQ.s (fun h => zs_aload_n (i := 1) o dX1_beginLoad_139 rfl rfl) ?_
      refine zQ.s (fun h => zs_aload_n (i := 2) o dX1_beginLoad_140 rfl rfl) ?_
      obtain ⟨g1, hm⟩ := gd_e hm
      obtain ⟨y2, c_y2, hm⟩ := bd_e hm
      refine zh_Vi o g1 ml_X1_482 (J_X1_takeFrom G _ _ _ _ _ _ z_ad c_y2) dX1_beginLoad_141 rfl rfl rfl rfl (by omega) (by omega) ?_
      refine zQ.fg (zl_n (zl_n (zl_n (zl_n (zl_n (zl_n zl_0)))))) ?_
      exact hj144 _ _ _ _ (by omega) (by omega) hm
    · have hm := if_e1 hm c
      refine zQ.s (fun h => zs_aload_n (i := 0) o dX1_beginLoad_130 rfl rfl) ?_
      refine zQ.s (fun h => zs_aload_n (i := 1) o dX1_beginLoad_131 rfl rfl) ?_
      obtain ⟨g3, hm⟩ := gd_e hm
      obtain ⟨y4, c_y4, hm⟩ := bd_e hm
      refine zh_Vi o g3 ml_X1_479 (J_X1_readLine G _ _ _ _ _  c_y4) dX1_beginLoad_132 rfl rfl rfl rfl (by omega) (by omega) ?_
      refine zQ.s (fun h => zs_goto (tgt := 144) o dX1_beginLoad_135 (by decide)) ?_
      refine zQ.fg (zl_n (zl_n (zl_n (zl_n (zl_n (zl_n zl_0)))))) ?_
      exact hj144 _ _ _ _ (by omega) (by omega) hm
  have hl13 : ∀ (n13 : Nat), n13 ≤ 18 → ∀ (h : zH) (x0 : Nat) (x1 : Nat) (x2 : Nat) (x3 : Int32) (x4 : Nat) (cl sl : Nat), cl + (3) ≤ 4 → sl + (10) ≤ 15 → j_X1_beginLoad_l13 n13 h x0 x1 x2 x3 x4 = some R → zQ (EH h) G X cl sl 13 [some (zrf x0), some (zrf x1), some (zrf x2), some (.int x3), some (zrf x4), none] [] := by
    intro n13
    induction n13 with
    | zero => intro _ h x0 x1 x2 x3 x4 cl sl _ _ hm; exact no_e hm
    | succ n13 ih =>
      intro hf13
      have ih13 := ih (by omega)
      have hj100 : ∀ (h : zH) (x0 : Nat) (x1 : Nat) (x2 : Nat) (x3 : Int32) (x4 : Nat) (cl sl : Nat), cl + (0 + (n13 * 0 + 3)) ≤ 4 → sl + (0 + (n13 * 0 + 10)) ≤ 15 → j_X1_beginLoad_j100 (j_X1_beginLoad_l13 n13) h x0 x1 x2 x3 x4 = some R → zQ (EH h) G X cl sl 100 [some (zrf x0), some (zrf x1), some (zrf x2), some (.int x3), some (zrf x4), none] [] := by
        intro h x0 x1 x2 x3 x4 cl sl hc hs hm
        unfold j_X1_beginLoad_j100 at hm
        refine zQ.s (fun h => zs_goto (tgt := 13) o dX1_beginLoad_100 (by decide)) ?_
        exact ih13 _ _ _ _ _ _ _ _ (by omega) (by omega) hm
      have hj99 : ∀ (h : zH) (x0 : Nat) (x1 : Nat) (x3 : Int32) (x4 : Nat) (s0 : Nat) (cl sl : Nat), cl + (0 + (n13 * 0 + 3)) ≤ 4 → sl + (0 + (n13 * 0 + 10)) ≤ 15 → j_X1_beginLoad_j99 (j_X1_beginLoad_l13 n13) h x0 x1 x3 x4 s0 = some R → zQ (EH h) G X cl sl 99 [some (zrf x0), some (zrf x1), none, some (.int x3), some (zrf x4), none] [zrf s0] := by
        intro h x0 x1 x3 x4 s0 cl sl hc hs hm
        unfold j_X1_beginLoad_j99 at hm
        refine zQ.s (fun h => zs_astore_n (i := 2) o dX1_beginLoad_99 rfl (by decide) (Or.inr (zc2_ref rfl)) (by simp only [List.set_cons_succ, List.set_cons_zero]; rfl)) ?_
        exact hj100 _ _ _ _ _ _ _ _ (by omega) (by omega) hm
      have hj98 : ∀ (h : zH) (x0 : Nat) (x1 : Nat) (x2 : Nat) (x3 : Int32) (x4 : Nat) (cl sl : Nat), cl + (0 + (n13 * 0 + 3)) ≤ 4 → sl + (0 + (n13 * 0 + 10)) ≤ 15 → j_X1_beginLoad_j98 (j_X1_beginLoad_l13 n13) h x0 x1 x2 x3 x4 = some R → zQ (EH h) G X cl sl 98 [some (zrf x0), some (zrf x1), some (zrf x2), some (.int x3), some (zrf x4), none] [] := by
        intro h x0 x1 x2 x3 x4 cl sl hc hs hm
        unfold j_X1_beginLoad_j98 at hm
        refine zQ.s (fun h => zs_aload_n (i := 2) o dX1_beginLoad_98 rfl rfl) ?_
        refine zQ.fg (zl_s (zl_s (zl_n (zl_s (zl_s (zl_n zl_0)))))) ?_
        exact hj99 _ _ _ _ _ _ _ _ (by omega) (by omega) hm
      have hj72 : ∀ (h : zH) (x0 : Nat) (x1 : Nat) (x2 : Nat) (x4 : Nat) (x5 : Nat) (s0 : Int32) (cl sl : Nat), cl + (0 + (n13 * 0 + 3)) ≤ 4 → sl + (0 + (n13 * 0 + 10)) ≤ 15 → j_X1_beginLoad_j72 (j_X1_beginLoad_l13 n13) h x0 x1 x2 x4 x5 s0 = some R → zQ (EH h) G X cl sl 72 [some (zrf x0), some (zrf x1), some (zrf x2), none, some (zrf x4), some (zrf x5)] [.int s0] := by
        intro h x0 x1 x2 x4 x5 s0 cl sl hc hs hm
        unfold j_X1_beginLoad_j72 at hm
        refine zQ.s (fun h => zs_istore_n (i := 3) o dX1_beginLoad_72 rfl (by decide) (Or.inr (zc2_ref rfl)) (by simp only [List.set_cons_succ, List.set_cons_zero]; rfl)) ?_
        refine zQ.s (fun h => zs_aload (i := 5) o dX1_beginLoad_73 rfl) ?_
        obtain ⟨g1, hm⟩ := gd_e hm
        obtain ⟨y2, c_y2, hm⟩ := bd_e hm
        refine zh_Vi o g1 ml_X1_476 (J_X8_isEndedStore G _ _ _ _  c_y2) dX1_beginLoad_75 rfl rfl rfl rfl (by omega) (by omega) ?_
        refine zQ.b (fun h => zs_if_eq (tgt := 98) o dX1_beginLoad_78 (by decide)) (fun c => ?_) (fun c => ?_)
        · have hm := if_e1 hm c
          refine zQ.fg (zl_s (zl_s (zl_s (zl_s (zl_s (zl_n zl_0)))))) ?_
          exact hj98 _ _ _ _ _ _ _ _ (by omega) (by omega) hm
        · have hm := if_e2 hm c
          refine zQ.s (fun h => zs_aload (i := 5) o dX1_beginLoad_81 rfl) ?_
          obtain ⟨g3, hm⟩ := gd_e hm
          refine zh_getI o g3 fl_X1_250_8 rfl dX1_beginLoad_83 ?_
          refine zQ.s (fun h => zs_aload_n (i := 1) o dX1_beginLoad_86 rfl rfl) ?_
          obtain ⟨g4, hm⟩ := gd_e hm
          refine zh_getI o g4 fl_X1_250_8 rfl dX1_beginLoad_87 ?_
          refine zQ.b (fun h => zs_icmp_ne (tgt := 98) o dX1_beginLoad_90 (by decide)) (fun c => ?_) (fun c => ?_)
          · have hm := if_e2 hm c
            refine zQ.fg (zl_s (zl_s (zl_s (zl_s (zl_s (zl_n zl_0)))))) ?_
            exact hj98 _ _ _ _ _ _ _ _ (by omega) (by omega) hm
          · have hm := if_e1 hm c
            refine zQ.s (fun h => zs_aload (i := 5) o dX1_beginLoad_93 rfl) ?_
            refine zQ.s (fun h => zs_goto (tgt := 99) o dX1_beginLoad_95 (by decide)) ?_
            refine zQ.fg (zl_s (zl_s (zl_n (zl_s (zl_s (zl_n zl_0)))))) ?_
            exact hj99 _ _ _ _ _ _ _ _ (by omega) (by omega) hm
      have hj71 : ∀ (h : zH) (x0 : Nat) (x1 : Nat) (x2 : Nat) (x4 : Nat) (x5 : Nat) (cl sl : Nat), cl + (0 + (n13 * 0 + 3)) ≤ 4 → sl + (0 + (n13 * 0 + 10)) ≤ 15 → j_X1_beginLoad_j71 (j_X1_beginLoad_l13 n13) h x0 x1 x2 x4 x5 = some R → zQ (EH h) G X cl sl 71 [some (zrf x0), some (zrf x1), some (zrf x2), none, some (zrf x4), some (zrf x5)] [] := by
        intro h x0 x1 x2 x4 x5 cl sl hc hs hm
        unfold j_X1_beginLoad_j71 at hm
        refine zQ.s (fun h => zs_iconst (v := 0) o dX1_beginLoad_71 (by decide)) ?_
        exact hj72 _ _ _ _ _ _ _ _ _ (by omega) (by omega) hm
      intro h x0 x1 x2 x3 x4 cl sl hc hs hm
      have hm : j_X1_beginLoad_b13 (j_X1_beginLoad_l13 n13) h x0 x1 x2 x3 x4 = some R := hm
      unfold j_X1_beginLoad_b13 at hm
      refine zQ.s (fun h => zs_aload (i := 4) o dX1_beginLoad_13 rfl) ?_
      obtain ⟨g1, hm⟩ := gd_e hm
      obtain ⟨y2, c_y2, hm⟩ := bd_e hm
      refine zh_Fi o g1 ml_X1_164_16 (J_J28_hasNext G _ _ _ _  c_y2) dX1_beginLoad_15 rfl rfl rfl rfl (by omega) (by omega) ?_
      refine zQ.b (fun h => zs_if_eq (tgt := 103) o dX1_beginLoad_20 (by decide)) (fun c => ?_) (fun c => ?_)
      · have hm := if_e1 hm c
        refine zQ.s (fun h => zs_iload_n (i := 3) o dX1_beginLoad_103 rfl rfl) ?_
        refine zQ.b (fun h => zs_if_ne (tgt := 126) o dX1_beginLoad_104 (by decide)) (fun c => ?_) (fun c => ?_)
        · have hm := if_e2 hm c
          refine zQ.fg (zl_s (zl_s (zl_s (zl_n (zl_n (zl_n zl_0)))))) ?_
          exact hj126 _ _ _ _ _ _ (by omega) (by omega) hm
        · have hm := if_e1 hm c
          refine zQ.s (fun h => zs_aload_n (i := 0) o dX1_beginLoad_107 rfl rfl) ?_
          obtain ⟨g3, hm⟩ := gd_e hm
          refine zh_getR o g3 fl_X1_95_1 rfl dX1_beginLoad_108 ?_
          refine zQ.s (fun h => zs_aload_n (i := 1) o dX1_beginLoad_111 rfl rfl) ?_
          obtain ⟨g4, hm⟩ := gd_e hm
          refine zh_getI o g4 fl_X1_284_8 rfl dX1_beginLoad_112 ?_
          refine zQ.s (fun h => zs_bipush (v := 16) o dX1_beginLoad_115 (by decide)) ?_
          refine zQ.s (fun h => zs_irem o dX1_beginLoad_117 (by decide)) ?_
          obtain ⟨g5, hm⟩ := gd_e hm
          obtain ⟨y6, c_y6, hm⟩ := bd_e hm
          refine zh_Vi o g5 ml_X1_359 (J_J3_get G _ _ _ _ _ z_ad c_y6) dX1_beginLoad_118 rfl rfl rfl rfl (by omega) (by omega) ?_
          refine zQ.b (fun h => zs_if_eq (tgt := 126) o dX1_beginLoad_121 (by decide)) (fun c => ?_) (fun c => ?_)
          · have hm := if_e1 hm c
            refine zQ.fg (zl_s (zl_s (zl_s (zl_n (zl_n (zl_n zl_0)))))) ?_
            exact hj126 _ _ _ _ _ _ (by omega) (by omega) hm
          · have hm := if_e2 hm c
            refine zQ.s (fun h => zs_iconst (v := 0) o dX1_beginLoad_124 (by decide)) ?_
            refine zh_reti o f dX1_beginLoad_125 rfl (by omega) (by omega) ((so_e hm).trans hR9.symm)
      · have hm := if_e2 hm c
        refine zQ.s (fun h => zs_aload (i := 4) o dX1_beginLoad_23 rfl) ?_
        obtain ⟨g7, hm⟩ := gd_e hm
        obtain ⟨y8, c_y8, hm⟩ := bd_e hm
        refine zh_Fr o g7 ml_X1_170_16 (J_J28_next G _ _ _ _  c_y8) dX1_beginLoad_25 rfl rfl rfl rfl (by omega) (by omega) ?_
        obtain ⟨g9, hm⟩ := gd_e hm
        refine zh_cast (c := 8) o q1468 (by decide) (by decide) g9 dX1_beginLoad_30 ?_
        refine zQ.s (fun h => zs_astore (i := 5) o dX1_beginLoad_33 (by decide) (Or.inr (zc2_ref rfl)) (by simp only [List.set_cons_succ, List.set_cons_zero]; rfl)) ?_
        refine zQ.s (fun h => zs_aload (i := 5) o dX1_beginLoad_35 rfl) ?_
        obtain ⟨g10, hm⟩ := gd_e hm
        refine zh_getR o g10 fl_X1_220_8 rfl dX1_beginLoad_37 ?_
        obtain ⟨g11, hm⟩ := gd_e hm
        obtain ⟨y12, c_y12, hm⟩ := bd_e hm
        refine zh_Vi o g11 ml_X1_235 (J_X4_isStore G _ _ _ _  c_y12) dX1_beginLoad_40 rfl rfl rfl rfl (by omega) (by omega) ?_
        refine zQ.b (fun h => zs_if_eq (tgt := 100) o dX1_beginLoad_43 (by decide)) (fun c => ?_) (fun c => ?_)
        · have hm := if_e1 hm c
          refine zQ.fg (zl_s (zl_s (zl_s (zl_s (zl_s (zl_n zl_0)))))) ?_
          exact hj100 _ _ _ _ _ _ _ _ (by omega) (by omega) hm
        · have hm := if_e2 hm c
          refine zQ.s (fun h => zs_aload (i := 5) o dX1_beginLoad_46 rfl) ?_
          refine zQ.s (fun h => zs_aload_n (i := 1) o dX1_beginLoad_48 rfl rfl) ?_
          obtain ⟨g13, hm⟩ := gd_e hm
          obtain ⟨y14, c_y14, hm⟩ := bd_e hm
          refine zh_D o g13 (J_X10_isOlderThan G _ _ _ _ _ c_y14) dX1_beginLoad_49 rfl rfl (by omega) (by omega) ?_
          refine zQ.b (fun h => zs_if_eq (tgt := 100) o dX1_beginLoad_52 (by decide)) (fun c => ?_) (fun c => ?_)
          · have hm := if_e1 hm c
            refine zQ.fg (zl_s (zl_s (zl_s (zl_s (zl_s (zl_n zl_0)))))) ?_
            exact hj100 _ _ _ _ _ _ _ _ (by omega) (by omega) hm
          · have hm := if_e2 hm c
            refine zQ.s (fun h => zs_iload_n (i := 3) o dX1_beginLoad_55 rfl rfl) ?_
            refine zQ.b (fun h => zs_if_eq (tgt := 71) o dX1_beginLoad_56 (by decide)) (fun c => ?_) (fun c => ?_)
            · have hm := if_e1 hm c
              refine zQ.fg (zl_s (zl_s (zl_s (zl_n (zl_s (zl_s zl_0)))))) ?_
              exact hj71 _ _ _ _ _ _ _ _ (by omega) (by omega) hm
            · have hm := if_e2 hm c
              refine zQ.s (fun h => zs_aload (i := 5) o dX1_beginLoad_59 rfl) ?_
              obtain ⟨g15, hm⟩ := gd_e hm
              obtain ⟨y16, c_y16, hm⟩ := bd_e hm
              refine zh_Vi o g15 ml_X1_362 (J_X8_isOver G _ _ _ _  c_y16) dX1_beginLoad_61 rfl rfl rfl rfl (by omega) (by omega) ?_
              refine zQ.b (fun h => zs_if_eq (tgt := 71) o dX1_beginLoad_64 (by decide)) (fun c => ?_) (fun c => ?_)
              · have hm := if_e1 hm c
                refine zQ.fg (zl_s (zl_s (zl_s (zl_n (zl_s (zl_s zl_0)))))) ?_
                exact hj71 _ _ _ _ _ _ _ _ (by omega) (by omega) hm
              · have hm := if_e2 hm c
                refine zQ.s (fun h => zs_iconst (v := 1) o dX1_beginLoad_67 (by decide)) ?_
                refine zQ.s (fun h => zs_goto (tgt := 72) o dX1_beginLoad_68 (by decide)) ?_
                refine zQ.fg (zl_s (zl_s (zl_s (zl_n (zl_s (zl_s zl_0)))))) ?_
                exact hj72 _ _ _ _ _ _ _ _ _ (by omega) (by omega) hm
  unfold j_X1_beginLoad at hm
  refine zQ.s (fun h => zs_nul o dX1_beginLoad_0) ?_
  refine zQ.s (fun h => zs_astore_n (i := 2) o dX1_beginLoad_1 rfl (by decide) (Or.inr (zc2_ref rfl)) (by simp only [List.set_cons_succ, List.set_cons_zero]; rfl)) ?_
  refine zQ.s (fun h => zs_iconst (v := 1) o dX1_beginLoad_2 (by decide)) ?_
  refine zQ.s (fun h => zs_istore_n (i := 3) o dX1_beginLoad_3 rfl (by decide) (Or.inr (zc2_ref rfl)) (by simp only [List.set_cons_succ, List.set_cons_zero]; rfl)) ?_
  refine zQ.s (fun h => zs_aload_n (i := 0) o dX1_beginLoad_4 rfl rfl) ?_
  obtain ⟨g1, hm⟩ := gd_e hm
  refine zh_getR o g1 fl_X1_79_1 rfl dX1_beginLoad_5 ?_
  obtain ⟨g2, hm⟩ := gd_e hm
  obtain ⟨y3, c_y3, hm⟩ := bd_e hm
  refine zh_Ur o g2 ml_X1_160 (J_J5_iterator G _ _ _ _  c_y3) dX1_beginLoad_8 rfl rfl rfl rfl (by omega) (by omega) ?_
  refine zQ.s (fun h => zs_astore (i := 4) o dX1_beginLoad_11 (by decide) (Or.inr rfl) (by simp only [List.set_cons_succ, List.set_cons_zero]; rfl)) ?_
  exact hl13 18 (Nat.le_refl _) _ _ _ _ _ _ _ _ (by omega) (by omega) hm

def j_X1_begin_j86 (h : zH) (s2 : Int32) (s1 : Int32) (s0 : Nat) : Option (zH × Int32) :=
  gd (kd h s0 8) <|
  bd (j_X8_begin h s0 s1 s2) fun y2 =>
  some (y2, (1 : Int32))
def j_X1_begin_j55 (h : zH) (x0 : Nat) (x1 : Nat) (x2 : Nat) : Option (zH × Int32) :=
  gd (kd h x0 1) <|
  gd (kd h x2 4) <|
  if (hI h 4 0 x2) = (4 : Int32) then
    j_X1_begin_j86 h (3 : Int32) (hI h 1 26 x0) x1
  else
    gd (kd h x2 4) <|
    if (hI h 4 0 x2) = (5 : Int32) then
      j_X1_begin_j86 h (6 : Int32) (hI h 1 26 x0) x1
    else
      j_X1_begin_j86 h (1 : Int32) (hI h 1 26 x0) x1
def j_X1_begin_j30 (h : zH) (x0 : Nat) (x1 : Nat) (x2 : Nat) : Option (zH × Int32) :=
  gd (kd h x2 4) <|
  if (hI h 4 0 x2) = (9 : Int32) then
    gd (kd h x1 8) <|
    bd (j_X1_isAddress h (hI h 8 17 x1)) fun y3 =>
    if y3.2 = (0 : Int32) then
      j_X1_begin_j55 y3.1 x0 x1 x2
    else
      gd (kd y3.1 x0 1) <|
      bd (j_X1_beginLoad y3.1 x0 x1) fun y5 =>
      gd (b01 y5.2) <|
      some (y5.1, y5.2)
  else
    j_X1_begin_j55 h x0 x1 x2
def j_X1_begin (h : zH) (p : Nat) (a1 : Nat) : Option (zH × Int32) :=
  gd (kd h a1 8) <|
  lt (hR h 8 0 a1) fun r2 =>
  gd (kd h r2 4) <|
  bd (j_X4_isForMemory h r2) fun y4 =>
  if y4.2 = (0 : Int32) then
    j_X1_begin_j30 y4.1 p a1 r2
  else
    gd (kd y4.1 p 1) <|
    gd (kd y4.1 a1 8) <|
    gd (kd y4.1 (hR y4.1 1 9 p) 201) <|
    gd (inb (hI y4.1 8 10 a1) (zN y4.1 (hR y4.1 1 9 p))) <|
    gd (kd y4.1 r2 4) <|
    gd (kd y4.1 a1 8) <|
    gd (wr y4.1 a1) <|
    lt (pI y4.1 8 17 a1 ((hI y4.1 201 (ix (hI y4.1 8 10 a1)) (hR y4.1 1 9 p)) + (hI y4.1 4 4 r2))) fun S12 =>
    j_X1_begin_j30 S12 p a1 r2

set_option maxHeartbeats 40000000 in
theorem J_X1_begin (G : zG) (h : zH) (p : Nat) (a1 : Nat) (V : Int32) (h9 : zH) (z_ad : ("java/util/BitSet", "$assertionsDisabled", "Z", .int 1) ∈ zGz G) (hm : j_X1_begin h p a1 = some (h9, V)) : zJi G yX1_begin cX1_begin 3 (some .boolean) 8 4 15 [zrf p, zrf a1] h V h9 := by
  refine zCo.st [some (zrf p), some (zrf a1), none] rfl rfl (by simp only [zarg_r, zarg_i, zarg_l, zarg_0]; rfl) (fun X o f0 hin hw0 => ?_)
  have f := f0.e
  have hin : (Xt X).name = "begin" := hin
  refine (?_ : zQ (EH h) G X 0 0 0 [some (zrf p), some (zrf a1), none] []) h rfl hw0
  clear hw0
  generalize hR9 : ((h9, V) : (zH × Int32)) = R at hm
  have hj86 : ∀ (h : zH) (s2 : Int32) (s1 : Int32) (s0 : Nat) (cl sl : Nat), cl + (0) ≤ 4 → sl + (0) ≤ 15 → j_X1_begin_j86 h s2 s1 s0 = some R → zQ (EH h) G X cl sl 86 [none, none, none] [.int s2, .int s1, zrf s0] := by
    intro h s2 s1 s0 cl sl hc hs hm
    unfold j_X1_begin_j86 at hm
    obtain ⟨g1, hm⟩ := gd_e hm
    obtain ⟨y2, c_y2, hm⟩ := bd_e hm
    refine zh_Vv o g1 ml_X1_473 (J_X8_begin G _ _ _ _ _  c_y2) dX1_begin_86 rfl rfl rfl rfl (by omega) (by omega) ?_
    refine zQ.s (fun h => zs_iconst (v := 1) o dX1_begin_89 (by decide)) ?_
    refine zh_reti o f dX1_begin_90 rfl (by omega) (by omega) ((so_e hm).trans hR9.symm)
  have hj55 : ∀ (h : zH) (x0 : Nat) (x1 : Nat) (x2 : Nat) (cl sl : Nat), cl + (0) ≤ 4 → sl + (0) ≤ 15 → j_X1_begin_j55 h x0 x1 x2 = some R → zQ (EH h) G X cl sl 55 [some (zrf x0), some (zrf x1), some (zrf x2)] [] := by
    intro h x0 x1 x2 cl sl hc hs hm
    unfold j_X1_begin_j55 at hm
    refine zQ.s (fun h => zs_aload_n (i := 1) o dX1_begin_55 rfl rfl) ?_
    refine zQ.s (fun h => zs_aload_n (i := 0) o dX1_begin_56 rfl rfl) ?_
    obtain ⟨g1, hm⟩ := gd_e hm
    refine zh_getI o g1 fl_X1_153_1 rfl dX1_begin_57 ?_
    refine zQ.s (fun h => zs_aload_n (i := 2) o dX1_begin_60 rfl rfl) ?_
    obtain ⟨g2, hm⟩ := gd_e hm
    refine zh_getI o g2 fl_X1_247_4 rfl dX1_begin_61 ?_
    refine zQ.s (fun h => zs_iconst (v := 4) o dX1_begin_64 (by decide)) ?_
    refine zQ.b (fun h => zs_icmp_ne (tgt := 72) o dX1_begin_65 (by decide)) (fun c => ?_) (fun c => ?_)
    · have hm := if_e2 hm c
      refine zQ.s (fun h => zs_aload_n (i := 2) o dX1_begin_72 rfl rfl) ?_
      obtain ⟨g3, hm⟩ := gd_e hm
      refine zh_getI o g3 fl_X1_247_4 rfl dX1_begin_73 ?_
      refine zQ.s (fun h => zs_iconst (v := 5) o dX1_begin_76 (by decide)) ?_
      refine zQ.b (fun h => zs_icmp_ne (tgt := 85) o dX1_begin_77 (by decide)) (fun c => ?_) (fun c => ?_)
      · have hm := if_e2 hm c
        refine zQ.s (fun h => zs_iconst (v := 1) o dX1_begin_85 (by decide)) ?_
        refine zQ.fg (zl_n (zl_n (zl_n zl_0))) ?_
        exact hj86 _ _ _ _ _ _ (by omega) (by omega) hm
      · have hm := if_e1 hm c
        refine zQ.s (fun h => zs_bipush (v := 6) o dX1_begin_80 (by decide)) ?_
        refine zQ.s (fun h => zs_goto (tgt := 86) o dX1_begin_82 (by decide)) ?_
        refine zQ.fg (zl_n (zl_n (zl_n zl_0))) ?_
        exact hj86 _ _ _ _ _ _ (by omega) (by omega) hm
    · have hm := if_e1 hm c
      refine zQ.s (fun h => zs_iconst (v := 3) o dX1_begin_68 (by decide)) ?_
      refine zQ.s (fun h => zs_goto (tgt := 86) o dX1_begin_69 (by decide)) ?_
      refine zQ.fg (zl_n (zl_n (zl_n zl_0))) ?_
      exact hj86 _ _ _ _ _ _ (by omega) (by omega) hm
  have hj30 : ∀ (h : zH) (x0 : Nat) (x1 : Nat) (x2 : Nat) (cl sl : Nat), cl + (4) ≤ 4 → sl + (15) ≤ 15 → j_X1_begin_j30 h x0 x1 x2 = some R → zQ (EH h) G X cl sl 30 [some (zrf x0), some (zrf x1), some (zrf x2)] [] := by
    intro h x0 x1 x2 cl sl hc hs hm
    unfold j_X1_begin_j30 at hm
    refine zQ.s (fun h => zs_aload_n (i := 2) o dX1_begin_30 rfl rfl) ?_
    obtain ⟨g1, hm⟩ := gd_e hm
    refine zh_getI o g1 fl_X1_247_4 rfl dX1_begin_31 ?_
    refine zQ.s (fun h => zs_bipush (v := 9) o dX1_begin_34 (by decide)) ?_
    refine zQ.b (fun h => zs_icmp_ne (tgt := 55) o dX1_begin_36 (by decide)) (fun c => ?_) (fun c => ?_)
    · have hm := if_e2 hm c
      exact hj55 _ _ _ _ _ _ (by omega) (by omega) hm
    · have hm := if_e1 hm c
      refine zQ.s (fun h => zs_aload_n (i := 1) o dX1_begin_39 rfl rfl) ?_
      obtain ⟨g2, hm⟩ := gd_e hm
      refine zh_getI o g2 fl_X1_250_8 rfl dX1_begin_40 ?_
      obtain ⟨y3, c_y3, hm⟩ := bd_e hm
      refine zh_Si o ml_X1_253 (J_X1_isAddress G _ _ _ _  c_y3) dX1_begin_43 rfl rfl rfl rfl (by omega) (by omega) ?_
      refine zQ.b (fun h => zs_if_eq (tgt := 55) o dX1_begin_46 (by decide)) (fun c => ?_) (fun c => ?_)
      · have hm := if_e1 hm c
        exact hj55 _ _ _ _ _ _ (by omega) (by omega) hm
      · have hm := if_e2 hm c
        refine zQ.s (fun h => zs_aload_n (i := 0) o dX1_begin_49 rfl rfl) ?_
        refine zQ.s (fun h => zs_aload_n (i := 1) o dX1_begin_50 rfl rfl) ?_
        obtain ⟨g4, hm⟩ := gd_e hm
        obtain ⟨y5, c_y5, hm⟩ := bd_e hm
        refine zh_Vi o g4 ml_X1_470 (J_X1_beginLoad G _ _ _ _ _ z_ad c_y5) dX1_begin_51 rfl rfl rfl rfl (by omega) (by omega) ?_
        obtain ⟨g6, hm⟩ := gd_e hm
        refine zh_reti o f dX1_begin_54 (b01_e g6).1 (by omega) (by omega) ((so_e hm).trans hR9.symm)
  unfold j_X1_begin at hm
  refine zQ.s (fun h => zs_aload_n (i := 1) o dX1_begin_0 rfl rfl) ?_
  obtain ⟨g1, hm⟩ := gd_e hm
  refine zh_getR o g1 fl_X1_220_8 rfl dX1_begin_1 ?_
  obtain ⟨r2, e_r2, hm⟩ := lt_e hm
  refine zQ.nmr e_r2 ?_
  refine zQ.s (fun h => zs_astore_n (i := 2) o dX1_begin_4 rfl (by decide) (Or.inr (zc2_ref rfl)) (by simp only [List.set_cons_succ, List.set_cons_zero]; rfl)) ?_
  refine zQ.s (fun h => zs_aload_n (i := 2) o dX1_begin_5 rfl rfl) ?_
  obtain ⟨g3, hm⟩ := gd_e hm
  obtain ⟨y4, c_y4, hm⟩ := bd_e hm
  refine zh_Vi o g3 ml_X1_467 (J_X4_isForMemory G _ _ _ _  c_y4) dX1_begin_6 rfl rfl rfl rfl (by omega) (by omega) ?_
  refine zQ.b (fun h => zs_if_eq (tgt := 30) o dX1_begin_9 (by decide)) (fun c => ?_) (fun c => ?_)
  · have hm := if_e1 hm c
    exact hj30 _ _ _ _ _ _ (by omega) (by omega) hm
  · have hm := if_e2 hm c
    refine zQ.s (fun h => zs_aload_n (i := 1) o dX1_begin_12 rfl rfl) ?_
    refine zQ.s (fun h => zs_aload_n (i := 0) o dX1_begin_13 rfl rfl) ?_
    obtain ⟨g5, hm⟩ := gd_e hm
    refine zh_getR o g5 fl_X1_50_1 rfl dX1_begin_14 ?_
    refine zQ.s (fun h => zs_aload_n (i := 1) o dX1_begin_17 rfl rfl) ?_
    obtain ⟨g6, hm⟩ := gd_e hm
    refine zh_getI o g6 fl_X1_270_8 rfl dX1_begin_18 ?_
    obtain ⟨g7, hm⟩ := gd_e hm
    obtain ⟨g8, hm⟩ := gd_e hm
    refine zh_iald o g7 g8 dX1_begin_21 ?_
    refine zQ.s (fun h => zs_aload_n (i := 2) o dX1_begin_22 rfl rfl) ?_
    obtain ⟨g9, hm⟩ := gd_e hm
    refine zh_getI o g9 fl_X1_316_4 rfl dX1_begin_23 ?_
    refine zQ.s (fun h => zs_iadd o dX1_begin_26) ?_
    obtain ⟨g10, hm⟩ := gd_e hm
    obtain ⟨g11, hm⟩ := gd_e hm
    obtain ⟨S12, e_S12, hm⟩ := lt_e hm
    refine zh_putI o g10 g11 fl_X1_250_8 rfl rfl ⟨rfl, rfl⟩ dX1_begin_27 e_S12 ?_
    exact hj30 _ _ _ _ _ _ (by omega) (by omega) hm

def j_X1_beginAll_j85 (k20 : zH → Nat → Nat → Nat → Option zH) (h : zH) (x0 : Nat) (x1 : Nat) (x2 : Nat) : Option zH :=
  k20 h x0 x1 x2
def j_X1_beginAll_b20 (k20 : zH → Nat → Nat → Nat → Option zH) (h : zH) (x0 : Nat) (x1 : Nat) (x2 : Nat) : Option zH :=
  gd (kd h x2 16) <|
  bd (j_J28_hasNext h x2) fun y2 =>
  if y2.2 = (0 : Int32) then
    some y2.1
  else
    gd (kd y2.1 x2 16) <|
    bd (j_J28_next y2.1 x2) fun y4 =>
    gd (kd y4.1 y4.2 8) <|
    gd (kd y4.1 y4.2 8) <|
    gd (kd y4.1 (hR y4.1 8 0 y4.2) 4) <|
    lt (hI y4.1 4 0 (hR y4.1 8 0 y4.2)) fun v8 =>
    gd (kd y4.1 x1 6) <|
    bd (j_X6_has y4.1 x1 v8) fun y10 =>
    if y10.2 = (0 : Int32) then
      j_X1_beginAll_j85 k20 y10.1 x0 x1 x2
    else
      gd (kd y10.1 x0 1) <|
      bd (j_X1_hasOperands y10.1 x0 y4.2) fun y12 =>
      if y12.2 = (0 : Int32) then
        j_X1_beginAll_j85 k20 y12.1 x0 x1 x2
      else
        gd (kd y12.1 x0 1) <|
        bd (j_X1_begin y12.1 x0 y4.2) fun y14 =>
        if y14.2 = (0 : Int32) then
          j_X1_beginAll_j85 k20 y14.1 x0 x1 x2
        else
          gd (kd y14.1 x1 6) <|
          bd (j_X6_use y14.1 x1 v8) fun y16 =>
          gd (kd y16 x2 16) <|
          bd (j_J28_remove y16 x2) fun y18 =>
          j_X1_beginAll_j85 k20 y18 x0 x1 x2
def j_X1_beginAll_l20 : Nat → zH → Nat → Nat → Nat → Option zH
  | 0 => fun _ _ _ _ => none
  | n + 1 => j_X1_beginAll_b20 (j_X1_beginAll_l20 n)
def j_X1_beginAll (h : zH) (p : Nat) : Option zH :=
  lt (zT h + 1) fun r1 =>
  lt (nw h 6 1 0) fun S2 =>
  gd (kd S2 p 1) <|
  bd (j_X1_isDividing S2 p) fun y4 =>
  gd (nzr r1) <|
  bd (j_X6_init y4.1 r1 y4.2) fun y6 =>
  gd (kd y6 p 1) <|
  gd (kd y6 (hR y6 1 16 p) 13) <|
  bd (j_J5_iterator y6 (hR y6 1 16 p)) fun y9 =>
  j_X1_beginAll_l20 10 y9.1 p r1 y9.2

set_option maxHeartbeats 40000000 in
theorem J_X1_beginAll (G : zG) (h : zH) (p : Nat) (h9 : zH) (z_ad : ("java/util/BitSet", "$assertionsDisabled", "Z", .int 1) ∈ zGz G) (hm : j_X1_beginAll h p = some h9) : zJv G yX1_beginAll cX1_beginAll 5 none 9 43 164 [zrf p] h h9 := by
  refine zCo.st [some (zrf p), none, none, none, none] rfl rfl (by simp only [zarg_r, zarg_i, zarg_l, zarg_0]; rfl) (fun X o f0 hin hw0 => ?_)
  have f := f0.e
  have hin : (Xt X).name = "beginAll" := hin
  refine (?_ : zQ (EH h) G X 0 0 0 [some (zrf p), none, none, none, none] []) h rfl hw0
  clear hw0
  generalize hR9 : (h9 : zH) = R at hm
  have hl20 : ∀ (n20 : Nat), n20 ≤ 10 → ∀ (h : zH) (x0 : Nat) (x1 : Nat) (x2 : Nat) (cl sl : Nat), cl + (n20 * 4 + 0) ≤ 43 → sl + (n20 * 15 + 0) ≤ 164 → j_X1_beginAll_l20 n20 h x0 x1 x2 = some R → zQ (EH h) G X cl sl 20 [some (zrf x0), some (zrf x1), some (zrf x2), none, none] [] := by
    intro n20
    induction n20 with
    | zero => intro _ h x0 x1 x2 cl sl _ _ hm; exact no_e hm
    | succ n20 ih =>
      intro hf20
      have ih20 := ih (by omega)
      have hj85 : ∀ (h : zH) (x0 : Nat) (x1 : Nat) (x2 : Nat) (cl sl : Nat), cl + (0 + (n20 * 4 + 0)) ≤ 43 → sl + (0 + (n20 * 15 + 0)) ≤ 164 → j_X1_beginAll_j85 (j_X1_beginAll_l20 n20) h x0 x1 x2 = some R → zQ (EH h) G X cl sl 85 [some (zrf x0), some (zrf x1), some (zrf x2), none, none] [] := by
        intro h x0 x1 x2 cl sl hc hs hm
        unfold j_X1_beginAll_j85 at hm
        refine zQ.s (fun h => zs_goto (tgt := 20) o dX1_beginAll_85 (by decide)) ?_
        exact ih20 _ _ _ _ _ _ (by omega) (by omega) hm
      intro h x0 x1 x2 cl sl hc hs hm
      have hm : j_X1_beginAll_b20 (j_X1_beginAll_l20 n20) h x0 x1 x2 = some R := hm
      unfold j_X1_beginAll_b20 at hm
      refine zQ.s (fun h => zs_aload_n (i := 2) o dX1_beginAll_20 rfl rfl) ?_
      obtain ⟨g1, hm⟩ := gd_e hm
      obtain ⟨y2, c_y2, hm⟩ := bd_e hm
      refine zh_Fi o g1 ml_X1_164_16 (J_J28_hasNext G _ _ _ _  c_y2) dX1_beginAll_21 rfl rfl rfl rfl (by omega) (by omega) ?_
      refine zQ.b (fun h => zs_if_eq (tgt := 88) o dX1_beginAll_26 (by decide)) (fun c => ?_) (fun c => ?_)
      · have hm := if_e1 hm c
        refine zh_retv o f dX1_beginAll_88 (by omega) (by omega) ((so_e hm).trans hR9.symm)
      · have hm := if_e2 hm c
        refine zQ.s (fun h => zs_aload_n (i := 2) o dX1_beginAll_29 rfl rfl) ?_
        obtain ⟨g3, hm⟩ := gd_e hm
        obtain ⟨y4, c_y4, hm⟩ := bd_e hm
        refine zh_Fr o g3 ml_X1_170_16 (J_J28_next G _ _ _ _  c_y4) dX1_beginAll_30 rfl rfl rfl rfl (by omega) (by omega) ?_
        obtain ⟨g5, hm⟩ := gd_e hm
        refine zh_cast (c := 8) o q1468 (by decide) (by decide) g5 dX1_beginAll_35 ?_
        refine zQ.s (fun h => zs_astore_n (i := 3) o dX1_beginAll_38 rfl (by decide) (Or.inr (zc2_ref rfl)) (by simp only [List.set_cons_succ, List.set_cons_zero]; rfl)) ?_
        refine zQ.s (fun h => zs_aload_n (i := 3) o dX1_beginAll_39 rfl rfl) ?_
        obtain ⟨g6, hm⟩ := gd_e hm
        refine zh_getR o g6 fl_X1_220_8 rfl dX1_beginAll_40 ?_
        obtain ⟨g7, hm⟩ := gd_e hm
        refine zh_getI o g7 fl_X1_247_4 rfl dX1_beginAll_43 ?_
        obtain ⟨v8, e_v8, hm⟩ := lt_e hm
        refine zQ.nmi e_v8 ?_
        refine zQ.s (fun h => zs_istore (i := 4) o dX1_beginAll_46 (by decide) (Or.inr (zc2_ref rfl)) (by simp only [List.set_cons_succ, List.set_cons_zero]; rfl)) ?_
        refine zQ.s (fun h => zs_aload_n (i := 1) o dX1_beginAll_48 rfl rfl) ?_
        refine zQ.s (fun h => zs_iload (i := 4) o dX1_beginAll_49 rfl) ?_
        obtain ⟨g9, hm⟩ := gd_e hm
        obtain ⟨y10, c_y10, hm⟩ := bd_e hm
        refine zh_Vi o g9 ml_X1_449 (J_X6_has G _ _ _ _ _  c_y10) dX1_beginAll_51 rfl rfl rfl rfl (by omega) (by omega) ?_
        refine zQ.b (fun h => zs_if_eq (tgt := 85) o dX1_beginAll_54 (by decide)) (fun c => ?_) (fun c => ?_)
        · have hm := if_e1 hm c
          refine zQ.fg (zl_s (zl_s (zl_s (zl_n (zl_n zl_0))))) ?_
          exact hj85 _ _ _ _ _ _ (by omega) (by omega) hm
        · have hm := if_e2 hm c
          refine zQ.s (fun h => zs_aload_n (i := 0) o dX1_beginAll_57 rfl rfl) ?_
          refine zQ.s (fun h => zs_aload_n (i := 3) o dX1_beginAll_58 rfl rfl) ?_
          obtain ⟨g11, hm⟩ := gd_e hm
          obtain ⟨y12, c_y12, hm⟩ := bd_e hm
          refine zh_Vi o g11 ml_X1_452 (J_X1_hasOperands G _ _ _ _ _ z_ad c_y12) dX1_beginAll_59 rfl rfl rfl rfl (by omega) (by omega) ?_
          refine zQ.b (fun h => zs_if_eq (tgt := 85) o dX1_beginAll_62 (by decide)) (fun c => ?_) (fun c => ?_)
          · have hm := if_e1 hm c
            refine zQ.fg (zl_s (zl_s (zl_s (zl_n (zl_n zl_0))))) ?_
            exact hj85 _ _ _ _ _ _ (by omega) (by omega) hm
          · have hm := if_e2 hm c
            refine zQ.s (fun h => zs_aload_n (i := 0) o dX1_beginAll_65 rfl rfl) ?_
            refine zQ.s (fun h => zs_aload_n (i := 3) o dX1_beginAll_66 rfl rfl) ?_
            obtain ⟨g13, hm⟩ := gd_e hm
            obtain ⟨y14, c_y14, hm⟩ := bd_e hm
            refine zh_Vi o g13 ml_X1_455 (J_X1_begin G _ _ _ _ _ z_ad c_y14) dX1_beginAll_67 rfl rfl rfl rfl (by omega) (by omega) ?_
            refine zQ.b (fun h => zs_if_eq (tgt := 85) o dX1_beginAll_70 (by decide)) (fun c => ?_) (fun c => ?_)
            · have hm := if_e1 hm c
              refine zQ.fg (zl_s (zl_s (zl_s (zl_n (zl_n zl_0))))) ?_
              exact hj85 _ _ _ _ _ _ (by omega) (by omega) hm
            · have hm := if_e2 hm c
              refine zQ.s (fun h => zs_aload_n (i := 1) o dX1_beginAll_73 rfl rfl) ?_
              refine zQ.s (fun h => zs_iload (i := 4) o dX1_beginAll_74 rfl) ?_
              obtain ⟨g15, hm⟩ := gd_e hm
              obtain ⟨y16, c_y16, hm⟩ := bd_e hm
              refine zh_Vv o g15 ml_X1_458 (J_X6_use G _ _ _ _  c_y16) dX1_beginAll_76 rfl rfl rfl rfl (by omega) (by omega) ?_
              refine zQ.s (fun h => zs_aload_n (i := 2) o dX1_beginAll_79 rfl rfl) ?_
              obtain ⟨g17, hm⟩ := gd_e hm
              obtain ⟨y18, c_y18, hm⟩ := bd_e hm
              refine zh_Fv o g17 ml_X1_179_16 (J_J28_remove G _ _ _  c_y18) dX1_beginAll_80 rfl rfl rfl rfl (by omega) (by omega) ?_
              refine zQ.fg (zl_s (zl_s (zl_s (zl_n (zl_n zl_0))))) ?_
              exact hj85 _ _ _ _ _ _ (by omega) (by omega) hm
  unfold j_X1_beginAll at hm
  obtain ⟨r1, e_r1, hm⟩ := lt_e hm
  obtain ⟨S2, e_S2, hm⟩ := lt_e hm
  refine zh_new (N := 4) o nl_X1_442 rfl dX1_beginAll_0 (by omega) (by omega) e_S2 ?_
  refine zQ.nmr e_r1 ?_
  refine zQ.s (fun h => zs_dup o dX1_beginAll_3 (by first | rfl | exact zrf_cat _)) ?_
  refine zQ.s (fun h => zs_aload_n (i := 0) o dX1_beginAll_4 rfl rfl) ?_
  obtain ⟨g3, hm⟩ := gd_e hm
  obtain ⟨y4, c_y4, hm⟩ := bd_e hm
  refine zh_Vi o g3 ml_X1_444 (J_X1_isDividing G _ _ _ _  c_y4) dX1_beginAll_5 rfl rfl rfl rfl (by omega) (by omega) ?_
  obtain ⟨g5, hm⟩ := gd_e hm
  obtain ⟨y6, c_y6, hm⟩ := bd_e hm
  refine zh_Iv o g5 ml_X1_447 (J_X6_init G _ _ _ _  c_y6) dX1_beginAll_8 rfl rfl rfl rfl (by omega) (by omega) ?_
  refine zQ.s (fun h => zs_astore_n (i := 1) o dX1_beginAll_11 rfl (by decide) (Or.inr (zc2_ref rfl)) (by simp only [List.set_cons_succ, List.set_cons_zero]; rfl)) ?_
  refine zQ.s (fun h => zs_aload_n (i := 0) o dX1_beginAll_12 rfl rfl) ?_
  obtain ⟨g7, hm⟩ := gd_e hm
  refine zh_getR o g7 fl_X1_83_1 rfl dX1_beginAll_13 ?_
  obtain ⟨g8, hm⟩ := gd_e hm
  obtain ⟨y9, c_y9, hm⟩ := bd_e hm
  refine zh_Ur o g8 ml_X1_160 (J_J5_iterator G _ _ _ _  c_y9) dX1_beginAll_16 rfl rfl rfl rfl (by omega) (by omega) ?_
  refine zQ.s (fun h => zs_astore_n (i := 2) o dX1_beginAll_19 rfl (by decide) (Or.inr (zc2_ref rfl)) (by simp only [List.set_cons_succ, List.set_cons_zero]; rfl)) ?_
  exact hl20 10 (Nat.le_refl _) _ _ _ _ _ _ (by omega) (by omega) hm

def j_X1_canRename_j36 (h : zH) : Option (zH × Int32) :=
  some (h, (0 : Int32))
def j_X1_canRename_j102 (h : zH) (s0 : Int32) : Option (zH × Int32) :=
  gd (b01 s0) <|
  some (h, s0)
def j_X1_canRename_j97 (h : zH) : Option (zH × Int32) :=
  j_X1_canRename_j102 h (1 : Int32)
def j_X1_canRename_j101 (h : zH) : Option (zH × Int32) :=
  j_X1_canRename_j102 h (0 : Int32)
def j_X1_canRename_j61 (h : zH) (x0 : Nat) (x2 : Nat) : Option (zH × Int32) :=
  gd (kd h x0 1) <|
  gd (kd h (hR h 1 15 x0) 13) <|
  bd (j_J0_isEmptyL h (hR h 1 15 x0)) fun y3 =>
  if y3.2 = (0 : Int32) then
    gd (kd y3.1 x2 4) <|
    bd (j_X4_standsAlone y3.1 x2) fun y5 =>
    if y5.2 = (0 : Int32) then
      gd (kd y5.1 x0 1) <|
      gd (kd y5.1 (hR y5.1 1 15 x0) 13) <|
      bd (j_J6_getFirst y5.1 (hR y5.1 1 15 x0)) fun y8 =>
      gd (kd y8.1 y8.2 8) <|
      gd (kd y8.1 y8.2 8) <|
      gd (kd y8.1 (hR y8.1 8 0 y8.2) 4) <|
      bd (j_X4_standsAlone y8.1 (hR y8.1 8 0 y8.2)) fun y12 =>
      if y12.2 = (0 : Int32) then
        j_X1_canRename_j97 y12.1
      else
        j_X1_canRename_j101 y12.1
    else
      j_X1_canRename_j101 y5.1
  else
    j_X1_canRename_j97 y3.1
def j_X1_canRename_j38 (h : zH) (x0 : Nat) (x2 : Nat) : Option (zH × Int32) :=
  gd (kd h x2 4) <|
  bd (j_X4_isForQueue h x2) fun y2 =>
  if y2.2 = (0 : Int32) then
    j_X1_canRename_j61 y2.1 x0 x2
  else
    gd (kd y2.1 x0 1) <|
    gd (kd y2.1 (hR y2.1 1 16 x0) 13) <|
    bd (j_J6_size y2.1 (hR y2.1 1 16 x0)) fun y5 =>
    gd (kd y5.1 x0 1) <|
    if y5.2 = (hI y5.1 1 7 x0) then
      some (y5.1, (0 : Int32))
    else
      j_X1_canRename_j61 y5.1 x0 x2
def j_X1_canRename (h : zH) (p : Nat) (a1 : Nat) : Option (zH × Int32) :=
  gd (kd h a1 8) <|
  lt (hR h 8 0 a1) fun r2 =>
  gd (kd h p 1) <|
  gd (kd h (hR h 1 15 p) 13) <|
  bd (j_J6_size h (hR h 1 15 p)) fun y5 =>
  gd (kd y5.1 p 1) <|
  if y5.2 = (hI y5.1 1 6 p) then
    j_X1_canRename_j36 y5.1
  else
    gd (kd y5.1 r2 4) <|
    bd (j_X4_hasResult y5.1 r2) fun y8 =>
    if y8.2 = (0 : Int32) then
      j_X1_canRename_j38 y8.1 p r2
    else
      gd (kd y8.1 p 1) <|
      gd (kd y8.1 (hR y8.1 1 13 p) 12) <|
      bd (j_J4_isEmpty y8.1 (hR y8.1 1 13 p)) fun y11 =>
      if y11.2 = (0 : Int32) then
        j_X1_canRename_j38 y11.1 p r2
      else
        j_X1_canRename_j36 y11.1

set_option maxHeartbeats 40000000 in
theorem J_X1_canRename (G : zG) (h : zH) (p : Nat) (a1 : Nat) (V : Int32) (h9 : zH) (hm : j_X1_canRename h p a1 = some (h9, V)) : zJi G yX1_canRename cX1_canRename 3 (some .boolean) 2 0 0 [zrf p, zrf a1] h V h9 := by
  refine zCo.st [some (zrf p), some (zrf a1), none] rfl rfl (by simp only [zarg_r, zarg_i, zarg_l, zarg_0]; rfl) (fun X o f0 hin hw0 => ?_)
  have f := f0.e
  have hin : (Xt X).name = "canRename" := hin
  refine (?_ : zQ (EH h) G X 0 0 0 [some (zrf p), some (zrf a1), none] []) h rfl hw0
  clear hw0
  generalize hR9 : ((h9, V) : (zH × Int32)) = R at hm
  have hj36 : ∀ (h : zH) (cl sl : Nat), cl + (0) ≤ 0 → sl + (0) ≤ 0 → j_X1_canRename_j36 h = some R → zQ (EH h) G X cl sl 36 [none, none, none] [] := by
    intro h cl sl hc hs hm
    unfold j_X1_canRename_j36 at hm
    refine zQ.s (fun h => zs_iconst (v := 0) o dX1_canRename_36 (by decide)) ?_
    refine zh_reti o f dX1_canRename_37 rfl (by omega) (by omega) ((so_e hm).trans hR9.symm)
  have hj102 : ∀ (h : zH) (s0 : Int32) (cl sl : Nat), cl + (0) ≤ 0 → sl + (0) ≤ 0 → j_X1_canRename_j102 h s0 = some R → zQ (EH h) G X cl sl 102 [none, none, none] [.int s0] := by
    intro h s0 cl sl hc hs hm
    unfold j_X1_canRename_j102 at hm
    obtain ⟨g1, hm⟩ := gd_e hm
    refine zh_reti o f dX1_canRename_102 (b01_e g1).1 (by omega) (by omega) ((so_e hm).trans hR9.symm)
  have hj97 : ∀ (h : zH) (cl sl : Nat), cl + (0) ≤ 0 → sl + (0) ≤ 0 → j_X1_canRename_j97 h = some R → zQ (EH h) G X cl sl 97 [none, none, none] [] := by
    intro h cl sl hc hs hm
    unfold j_X1_canRename_j97 at hm
    refine zQ.s (fun h => zs_iconst (v := 1) o dX1_canRename_97 (by decide)) ?_
    refine zQ.s (fun h => zs_goto (tgt := 102) o dX1_canRename_98 (by decide)) ?_
    exact hj102 _ _ _ _ (by omega) (by omega) hm
  have hj101 : ∀ (h : zH) (cl sl : Nat), cl + (0) ≤ 0 → sl + (0) ≤ 0 → j_X1_canRename_j101 h = some R → zQ (EH h) G X cl sl 101 [none, none, none] [] := by
    intro h cl sl hc hs hm
    unfold j_X1_canRename_j101 at hm
    refine zQ.s (fun h => zs_iconst (v := 0) o dX1_canRename_101 (by decide)) ?_
    exact hj102 _ _ _ _ (by omega) (by omega) hm
  have hj61 : ∀ (h : zH) (x0 : Nat) (x2 : Nat) (cl sl : Nat), cl + (0) ≤ 0 → sl + (0) ≤ 0 → j_X1_canRename_j61 h x0 x2 = some R → zQ (EH h) G X cl sl 61 [some (zrf x0), none, some (zrf x2)] [] := by
    intro h x0 x2 cl sl hc hs hm
    unfold j_X1_canRename_j61 at hm
    refine zQ.s (fun h => zs_aload_n (i := 0) o dX1_canRename_61 rfl rfl) ?_
    obtain ⟨g1, hm⟩ := gd_e hm
    refine zh_getR o g1 fl_X1_79_1 rfl dX1_canRename_62 ?_
    obtain ⟨g2, hm⟩ := gd_e hm
    obtain ⟨y3, c_y3, hm⟩ := bd_e hm
    refine zh_Ui o g2 ml_X1_346 (J_J0_isEmptyL G _ _ _ _  c_y3) dX1_canRename_65 rfl rfl rfl rfl (by omega) (by omega) ?_
    refine zQ.b (fun h => zs_if_ne (tgt := 97) o dX1_canRename_68 (by decide)) (fun c => ?_) (fun c => ?_)
    · have hm := if_e2 hm c
      refine zQ.fg (zl_n (zl_n (zl_n zl_0))) ?_
      exact hj97 _ _ _ (by omega) (by omega) hm
    · have hm := if_e1 hm c
      refine zQ.s (fun h => zs_aload_n (i := 2) o dX1_canRename_71 rfl rfl) ?_
      obtain ⟨g4, hm⟩ := gd_e hm
      obtain ⟨y5, c_y5, hm⟩ := bd_e hm
      refine zh_Vi o g4 ml_X1_511 (J_X4_standsAlone G _ _ _ _  c_y5) dX1_canRename_72 rfl rfl rfl rfl (by omega) (by omega) ?_
      refine zQ.b (fun h => zs_if_ne (tgt := 101) o dX1_canRename_75 (by decide)) (fun c => ?_) (fun c => ?_)
      · have hm := if_e2 hm c
        refine zQ.fg (zl_n (zl_n (zl_n zl_0))) ?_
        exact hj101 _ _ _ (by omega) (by omega) hm
      · have hm := if_e1 hm c
        refine zQ.s (fun h => zs_aload_n (i := 0) o dX1_canRename_78 rfl rfl) ?_
        obtain ⟨g6, hm⟩ := gd_e hm
        refine zh_getR o g6 fl_X1_79_1 rfl dX1_canRename_79 ?_
        obtain ⟨g7, hm⟩ := gd_e hm
        obtain ⟨y8, c_y8, hm⟩ := bd_e hm
        refine zh_Vr o g7 ml_X1_349 (J_J6_getFirst G _ _ _ _  c_y8) dX1_canRename_82 rfl rfl rfl rfl (by omega) (by omega) ?_
        obtain ⟨g9, hm⟩ := gd_e hm
        refine zh_cast (c := 8) o q1468 (by decide) (by decide) g9 dX1_canRename_85 ?_
        obtain ⟨g10, hm⟩ := gd_e hm
        refine zh_getR o g10 fl_X1_220_8 rfl dX1_canRename_88 ?_
        obtain ⟨g11, hm⟩ := gd_e hm
        obtain ⟨y12, c_y12, hm⟩ := bd_e hm
        refine zh_Vi o g11 ml_X1_511 (J_X4_standsAlone G _ _ _ _  c_y12) dX1_canRename_91 rfl rfl rfl rfl (by omega) (by omega) ?_
        refine zQ.b (fun h => zs_if_ne (tgt := 101) o dX1_canRename_94 (by decide)) (fun c => ?_) (fun c => ?_)
        · have hm := if_e2 hm c
          refine zQ.fg (zl_n (zl_n (zl_n zl_0))) ?_
          exact hj101 _ _ _ (by omega) (by omega) hm
        · have hm := if_e1 hm c
          refine zQ.fg (zl_n (zl_n (zl_n zl_0))) ?_
          exact hj97 _ _ _ (by omega) (by omega) hm
  have hj38 : ∀ (h : zH) (x0 : Nat) (x2 : Nat) (cl sl : Nat), cl + (0) ≤ 0 → sl + (0) ≤ 0 → j_X1_canRename_j38 h x0 x2 = some R → zQ (EH h) G X cl sl 38 [some (zrf x0), none, some (zrf x2)] [] := by
    intro h x0 x2 cl sl hc hs hm
    unfold j_X1_canRename_j38 at hm
    refine zQ.s (fun h => zs_aload_n (i := 2) o dX1_canRename_38 rfl rfl) ?_
    obtain ⟨g1, hm⟩ := gd_e hm
    obtain ⟨y2, c_y2, hm⟩ := bd_e hm
    refine zh_Vi o g1 ml_X1_508 (J_X4_isForQueue G _ _ _ _  c_y2) dX1_canRename_39 rfl rfl rfl rfl (by omega) (by omega) ?_
    refine zQ.b (fun h => zs_if_eq (tgt := 61) o dX1_canRename_42 (by decide)) (fun c => ?_) (fun c => ?_)
    · have hm := if_e1 hm c
      exact hj61 _ _ _ _ _ (by omega) (by omega) hm
    · have hm := if_e2 hm c
      refine zQ.s (fun h => zs_aload_n (i := 0) o dX1_canRename_45 rfl rfl) ?_
      obtain ⟨g3, hm⟩ := gd_e hm
      refine zh_getR o g3 fl_X1_83_1 rfl dX1_canRename_46 ?_
      obtain ⟨g4, hm⟩ := gd_e hm
      obtain ⟨y5, c_y5, hm⟩ := bd_e hm
      refine zh_Vi o g4 ml_X1_496 (J_J6_size G _ _ _ _  c_y5) dX1_canRename_49 rfl rfl rfl rfl (by omega) (by omega) ?_
      refine zQ.s (fun h => zs_aload_n (i := 0) o dX1_canRename_52 rfl rfl) ?_
      obtain ⟨g6, hm⟩ := gd_e hm
      refine zh_getI o g6 fl_X1_44_1 rfl dX1_canRename_53 ?_
      refine zQ.b (fun h => zs_icmp_ne (tgt := 61) o dX1_canRename_56 (by decide)) (fun c => ?_) (fun c => ?_)
      · have hm := if_e2 hm c
        exact hj61 _ _ _ _ _ (by omega) (by omega) hm
      · have hm := if_e1 hm c
        refine zQ.s (fun h => zs_iconst (v := 0) o dX1_canRename_59 (by decide)) ?_
        refine zh_reti o f dX1_canRename_60 rfl (by omega) (by omega) ((so_e hm).trans hR9.symm)
  unfold j_X1_canRename at hm
  refine zQ.s (fun h => zs_aload_n (i := 1) o dX1_canRename_0 rfl rfl) ?_
  obtain ⟨g1, hm⟩ := gd_e hm
  refine zh_getR o g1 fl_X1_220_8 rfl dX1_canRename_1 ?_
  obtain ⟨r2, e_r2, hm⟩ := lt_e hm
  refine zQ.nmr e_r2 ?_
  refine zQ.s (fun h => zs_astore_n (i := 2) o dX1_canRename_4 rfl (by decide) (Or.inr (zc2_ref rfl)) (by simp only [List.set_cons_succ, List.set_cons_zero]; rfl)) ?_
  refine zQ.s (fun h => zs_aload_n (i := 0) o dX1_canRename_5 rfl rfl) ?_
  obtain ⟨g3, hm⟩ := gd_e hm
  refine zh_getR o g3 fl_X1_79_1 rfl dX1_canRename_6 ?_
  obtain ⟨g4, hm⟩ := gd_e hm
  obtain ⟨y5, c_y5, hm⟩ := bd_e hm
  refine zh_Vi o g4 ml_X1_496 (J_J6_size G _ _ _ _  c_y5) dX1_canRename_9 rfl rfl rfl rfl (by omega) (by omega) ?_
  refine zQ.s (fun h => zs_aload_n (i := 0) o dX1_canRename_12 rfl rfl) ?_
  obtain ⟨g6, hm⟩ := gd_e hm
  refine zh_getI o g6 fl_X1_41_1 rfl dX1_canRename_13 ?_
  refine zQ.b (fun h => zs_icmp_eq (tgt := 36) o dX1_canRename_16 (by decide)) (fun c => ?_) (fun c => ?_)
  · have hm := if_e1 hm c
    refine zQ.fg (zl_n (zl_n (zl_n zl_0))) ?_
    exact hj36 _ _ _ (by omega) (by omega) hm
  · have hm := if_e2 hm c
    refine zQ.s (fun h => zs_aload_n (i := 2) o dX1_canRename_19 rfl rfl) ?_
    obtain ⟨g7, hm⟩ := gd_e hm
    obtain ⟨y8, c_y8, hm⟩ := bd_e hm
    refine zh_Vi o g7 ml_X1_224 (J_X4_hasResult G _ _ _ _  c_y8) dX1_canRename_20 rfl rfl rfl rfl (by omega) (by omega) ?_
    refine zQ.b (fun h => zs_if_eq (tgt := 38) o dX1_canRename_23 (by decide)) (fun c => ?_) (fun c => ?_)
    · have hm := if_e1 hm c
      refine zQ.fg (zl_s (zl_n (zl_s zl_0))) ?_
      exact hj38 _ _ _ _ _ (by omega) (by omega) hm
    · have hm := if_e2 hm c
      refine zQ.s (fun h => zs_aload_n (i := 0) o dX1_canRename_26 rfl rfl) ?_
      obtain ⟨g9, hm⟩ := gd_e hm
      refine zh_getR o g9 fl_X1_69_1 rfl dX1_canRename_27 ?_
      obtain ⟨g10, hm⟩ := gd_e hm
      obtain ⟨y11, c_y11, hm⟩ := bd_e hm
      refine zh_Vi o g10 ml_X1_507 (J_J4_isEmpty G _ _ _ _  c_y11) dX1_canRename_30 rfl rfl rfl rfl (by omega) (by omega) ?_
      refine zQ.b (fun h => zs_if_eq (tgt := 38) o dX1_canRename_33 (by decide)) (fun c => ?_) (fun c => ?_)
      · have hm := if_e1 hm c
        refine zQ.fg (zl_s (zl_n (zl_s zl_0))) ?_
        exact hj38 _ _ _ _ _ (by omega) (by omega) hm
      · have hm := if_e2 hm c
        refine zQ.fg (zl_n (zl_n (zl_n zl_0))) ?_
        exact hj36 _ _ _ (by omega) (by omega) hm

def j_X1_rename_j183 (h : zH) : Option zH :=
  some h
def j_X1_rename_j100 (h : zH) (x0 : Nat) (x1 : Nat) (x2 : Nat) : Option zH :=
  gd (kd h x0 1) <|
  gd (kd h (hR h 1 15 x0) 13) <|
  bd (j_J6_addLast h (hR h 1 15 x0) x1) fun y3 =>
  gd (kd y3 x2 4) <|
  bd (j_X4_isForQueue y3 x2) fun y5 =>
  if y5.2 = (0 : Int32) then
    gd (kd y5.1 x0 1) <|
    gd (kd y5.1 x1 8) <|
    bd (j_X8_end y5.1 x1 (hI y5.1 1 26 x0)) fun y8 =>
    gd (kd y8 x1 8) <|
    gd (kd y8 x1 8) <|
    gd (wr y8 x1) <|
    lt (pI y8 8 19 x1 (hI y8 8 6 x1)) fun S12 =>
    gd (kd S12 x2 4) <|
    if (hI S12 4 0 x2) = (15 : Int32) then
      gd (kd S12 x0 1) <|
      gd (kd S12 x1 8) <|
      gd (kd S12 x1 8) <|
      gd (kd S12 (hR S12 1 9 x0) 201) <|
      gd (wr S12 (hR S12 1 9 x0)) <|
      gd (inb (hI S12 8 12 x1) (zN S12 (hR S12 1 9 x0))) <|
      lt (pI S12 201 (ix (hI S12 8 12 x1)) (hR S12 1 9 x0) ((hI S12 8 1 x1) + (1 : Int32))) fun S20 =>
      gd (kd S20 x0 1) <|
      gd (kd S20 x1 8) <|
      gd (kd S20 (hR S20 1 10 x0) 11) <|
      bd (j_J3_set S20 (hR S20 1 10 x0) (hI S20 8 12 x1)) fun y24 =>
      j_X1_rename_j183 y24
    else
      j_X1_rename_j183 S12
  else
    gd (kd y5.1 x1 8) <|
    gd (wr y5.1 x1) <|
    lt (pI y5.1 8 14 x1 (113 : Int32)) fun S27 =>
    gd (kd S27 x0 1) <|
    gd (kd S27 (hR S27 1 16 x0) 13) <|
    bd (j_J6_addLast S27 (hR S27 1 16 x0) x1) fun y30 =>
    j_X1_rename_j183 y30
def j_X1_rename (h : zH) (p : Nat) (a1 : Nat) : Option zH :=
  gd (kd h a1 8) <|
  lt (hR h 8 0 a1) fun r2 =>
  gd (kd h p 1) <|
  gd (kd h a1 8) <|
  gd (wr h a1) <|
  lt (pI h 8 7 a1 (hI h 1 26 p)) fun S6 =>
  gd (kd S6 p 1) <|
  gd (kd S6 r2 4) <|
  gd (kd S6 (hR S6 1 11 p) 201) <|
  gd (inb (hI S6 4 2 r2) (zN S6 (hR S6 1 11 p))) <|
  gd (kd S6 a1 8) <|
  gd (wr S6 a1) <|
  lt (pI S6 8 10 a1 (hI S6 201 (ix (hI S6 4 2 r2)) (hR S6 1 11 p))) fun S13 =>
  gd (kd S13 p 1) <|
  gd (kd S13 r2 4) <|
  gd (kd S13 (hR S13 1 11 p) 201) <|
  gd (inb (hI S13 4 3 r2) (zN S13 (hR S13 1 11 p))) <|
  gd (kd S13 a1 8) <|
  gd (wr S13 a1) <|
  lt (pI S13 8 11 a1 (hI S13 201 (ix (hI S13 4 3 r2)) (hR S13 1 11 p))) fun S20 =>
  gd (kd S20 r2 4) <|
  bd (j_X4_hasResult S20 r2) fun y22 =>
  if y22.2 = (0 : Int32) then
    j_X1_rename_j100 y22.1 p a1 r2
  else
    gd (kd y22.1 p 1) <|
    gd (kd y22.1 r2 4) <|
    gd (kd y22.1 (hR y22.1 1 11 p) 201) <|
    gd (inb (hI y22.1 4 1 r2) (zN y22.1 (hR y22.1 1 11 p))) <|
    gd (kd y22.1 a1 8) <|
    gd (wr y22.1 a1) <|
    lt (pI y22.1 8 13 a1 (hI y22.1 201 (ix (hI y22.1 4 1 r2)) (hR y22.1 1 11 p))) fun S29 =>
    gd (kd S29 p 1) <|
    gd (kd S29 (hR S29 1 13 p) 12) <|
    bd (j_J4_removeFirst S29 (hR S29 1 13 p)) fun y32 =>
    gd (kd y32.1 y32.2 19) <|
    gd (kd y32.1 y32.2 19) <|
    bd (j_J21_intValue y32.1 y32.2) fun y35 =>
    gd (kd y35.1 a1 8) <|
    gd (wr y35.1 a1) <|
    lt (pI y35.1 8 12 a1 y35.2) fun S38 =>
    gd (kd S38 p 1) <|
    gd (kd S38 a1 8) <|
    gd (kd S38 (hR S38 1 10 p) 11) <|
    bd (j_J3_clear S38 (hR S38 1 10 p) (hI S38 8 12 a1)) fun y42 =>
    gd (kd y42 p 1) <|
    gd (kd y42 r2 4) <|
    gd (kd y42 a1 8) <|
    gd (kd y42 (hR y42 1 11 p) 201) <|
    gd (wr y42 (hR y42 1 11 p)) <|
    gd (inb (hI y42 4 1 r2) (zN y42 (hR y42 1 11 p))) <|
    lt (pI y42 201 (ix (hI y42 4 1 r2)) (hR y42 1 11 p) (hI y42 8 12 a1)) fun S49 =>
    j_X1_rename_j100 S49 p a1 r2

set_option maxHeartbeats 40000000 in
theorem J_X1_rename (G : zG) (h : zH) (p : Nat) (a1 : Nat) (h9 : zH) (z_ad : ("java/util/BitSet", "$assertionsDisabled", "Z", .int 1) ∈ zGz G) (hm : j_X1_rename h p a1 = some h9) : zJv G yX1_rename cX1_rename 3 none 4 2 6 [zrf p, zrf a1] h h9 := by
  refine zCo.st [some (zrf p), some (zrf a1), none] rfl rfl (by simp only [zarg_r, zarg_i, zarg_l, zarg_0]; rfl) (fun X o f0 hin hw0 => ?_)
  have f := f0.e
  have hin : (Xt X).name = "rename" := hin
  refine (?_ : zQ (EH h) G X 0 0 0 [some (zrf p), some (zrf a1), none] []) h rfl hw0
  clear hw0
  generalize hR9 : (h9 : zH) = R at hm
  have hj183 : ∀ (h : zH) (cl sl : Nat), cl + (0) ≤ 2 → sl + (0) ≤ 6 → j_X1_rename_j183 h = some R → zQ (EH h) G X cl sl 183 [none, none, none] [] := by
    intro h cl sl hc hs hm
    unfold j_X1_rename_j183 at hm
    refine zh_retv o f dX1_rename_183 (by omega) (by omega) ((so_e hm).trans hR9.symm)
  have hj100 : ∀ (h : zH) (x0 : Nat) (x1 : Nat) (x2 : Nat) (cl sl : Nat), cl + (2) ≤ 2 → sl + (6) ≤ 6 → j_X1_rename_j100 h x0 x1 x2 = some R → zQ (EH h) G X cl sl 100 [some (zrf x0), some (zrf x1), some (zrf x2)] [] := by
    intro h x0 x1 x2 cl sl hc hs hm
    unfold j_X1_rename_j100 at hm
    refine zQ.s (fun h => zs_aload_n (i := 0) o dX1_rename_100 rfl rfl) ?_
    obtain ⟨g1, hm⟩ := gd_e hm
    refine zh_getR o g1 fl_X1_79_1 rfl dX1_rename_101 ?_
    refine zQ.s (fun h => zs_aload_n (i := 1) o dX1_rename_104 rfl rfl) ?_
    obtain ⟨g2, hm⟩ := gd_e hm
    obtain ⟨y3, c_y3, hm⟩ := bd_e hm
    refine zh_Vv o g2 ml_X1_503 (J_J6_addLast G _ _ _ _  c_y3) dX1_rename_105 rfl rfl rfl rfl (by omega) (by omega) ?_
    refine zQ.s (fun h => zs_aload_n (i := 2) o dX1_rename_108 rfl rfl) ?_
    obtain ⟨g4, hm⟩ := gd_e hm
    obtain ⟨y5, c_y5, hm⟩ := bd_e hm
    refine zh_Vi o g4 ml_X1_508 (J_X4_isForQueue G _ _ _ _  c_y5) dX1_rename_109 rfl rfl rfl rfl (by omega) (by omega) ?_
    refine zQ.b (fun h => zs_if_eq (tgt := 132) o dX1_rename_112 (by decide)) (fun c => ?_) (fun c => ?_)
    · have hm := if_e1 hm c
      refine zQ.s (fun h => zs_aload_n (i := 1) o dX1_rename_132 rfl rfl) ?_
      refine zQ.s (fun h => zs_aload_n (i := 0) o dX1_rename_133 rfl rfl) ?_
      obtain ⟨g6, hm⟩ := gd_e hm
      refine zh_getI o g6 fl_X1_153_1 rfl dX1_rename_134 ?_
      obtain ⟨g7, hm⟩ := gd_e hm
      obtain ⟨y8, c_y8, hm⟩ := bd_e hm
      refine zh_Vv o g7 ml_X1_232 (J_X8_end G _ _ _ _  c_y8) dX1_rename_137 rfl rfl rfl rfl (by omega) (by omega) ?_
      refine zQ.s (fun h => zs_aload_n (i := 1) o dX1_rename_140 rfl rfl) ?_
      refine zQ.s (fun h => zs_aload_n (i := 1) o dX1_rename_141 rfl rfl) ?_
      obtain ⟨g9, hm⟩ := gd_e hm
      refine zh_getI o g9 fl_X1_319_8 rfl dX1_rename_142 ?_
      obtain ⟨g10, hm⟩ := gd_e hm
      obtain ⟨g11, hm⟩ := gd_e hm
      obtain ⟨S12, e_S12, hm⟩ := lt_e hm
      refine zh_putI o g10 g11 fl_X1_310_8 rfl rfl ⟨rfl, rfl⟩ dX1_rename_145 e_S12 ?_
      refine zQ.s (fun h => zs_aload_n (i := 2) o dX1_rename_148 rfl rfl) ?_
      obtain ⟨g13, hm⟩ := gd_e hm
      refine zh_getI o g13 fl_X1_247_4 rfl dX1_rename_149 ?_
      refine zQ.s (fun h => zs_bipush (v := 15) o dX1_rename_152 (by decide)) ?_
      refine zQ.b (fun h => zs_icmp_ne (tgt := 183) o dX1_rename_154 (by decide)) (fun c => ?_) (fun c => ?_)
      · have hm := if_e2 hm c
        refine zQ.fg (zl_n (zl_n (zl_n zl_0))) ?_
        exact hj183 _ _ _ (by omega) (by omega) hm
      · have hm := if_e1 hm c
        refine zQ.s (fun h => zs_aload_n (i := 0) o dX1_rename_157 rfl rfl) ?_
        obtain ⟨g14, hm⟩ := gd_e hm
        refine zh_getR o g14 fl_X1_50_1 rfl dX1_rename_158 ?_
        refine zQ.s (fun h => zs_aload_n (i := 1) o dX1_rename_161 rfl rfl) ?_
        obtain ⟨g15, hm⟩ := gd_e hm
        refine zh_getI o g15 fl_X1_328_8 rfl dX1_rename_162 ?_
        refine zQ.s (fun h => zs_aload_n (i := 1) o dX1_rename_165 rfl rfl) ?_
        obtain ⟨g16, hm⟩ := gd_e hm
        refine zh_getI o g16 fl_X1_284_8 rfl dX1_rename_166 ?_
        refine zQ.s (fun h => zs_iconst (v := 1) o dX1_rename_169 (by decide)) ?_
        refine zQ.s (fun h => zs_iadd o dX1_rename_170) ?_
        obtain ⟨g17, hm⟩ := gd_e hm
        obtain ⟨g18, hm⟩ := gd_e hm
        obtain ⟨g19, hm⟩ := gd_e hm
        obtain ⟨S20, e_S20, hm⟩ := lt_e hm
        refine zh_iast o g17 g18 g19 dX1_rename_171 e_S20 ?_
        refine zQ.s (fun h => zs_aload_n (i := 0) o dX1_rename_172 rfl rfl) ?_
        obtain ⟨g21, hm⟩ := gd_e hm
        refine zh_getR o g21 fl_X1_56_1 rfl dX1_rename_173 ?_
        refine zQ.s (fun h => zs_aload_n (i := 1) o dX1_rename_176 rfl rfl) ?_
        obtain ⟨g22, hm⟩ := gd_e hm
        refine zh_getI o g22 fl_X1_328_8 rfl dX1_rename_177 ?_
        obtain ⟨g23, hm⟩ := gd_e hm
        obtain ⟨y24, c_y24, hm⟩ := bd_e hm
        refine zh_Vv o g23 ml_X1_121 (J_J3_set G _ _ _ _ z_ad c_y24) dX1_rename_180 rfl rfl rfl rfl (by omega) (by omega) ?_
        refine zQ.fg (zl_n (zl_n (zl_n zl_0))) ?_
        exact hj183 _ _ _ (by omega) (by omega) hm
    · have hm := if_e2 hm c
      refine zQ.s (fun h => zs_aload_n (i := 1) o dX1_rename_115 rfl rfl) ?_
      refine zQ.s (fun h => zs_bipush (v := 113) o dX1_rename_116 (by decide)) ?_
      obtain ⟨g25, hm⟩ := gd_e hm
      obtain ⟨g26, hm⟩ := gd_e hm
      obtain ⟨S27, e_S27, hm⟩ := lt_e hm
      refine zh_putI o g25 g26 fl_X1_190_8 rfl rfl ⟨rfl, rfl⟩ dX1_rename_118 e_S27 ?_
      refine zQ.s (fun h => zs_aload_n (i := 0) o dX1_rename_121 rfl rfl) ?_
      obtain ⟨g28, hm⟩ := gd_e hm
      refine zh_getR o g28 fl_X1_83_1 rfl dX1_rename_122 ?_
      refine zQ.s (fun h => zs_aload_n (i := 1) o dX1_rename_125 rfl rfl) ?_
      obtain ⟨g29, hm⟩ := gd_e hm
      obtain ⟨y30, c_y30, hm⟩ := bd_e hm
      refine zh_Vv o g29 ml_X1_503 (J_J6_addLast G _ _ _ _  c_y30) dX1_rename_126 rfl rfl rfl rfl (by omega) (by omega) ?_
      refine zQ.s (fun h => zs_goto (tgt := 183) o dX1_rename_129 (by decide)) ?_
      refine zQ.fg (zl_n (zl_n (zl_n zl_0))) ?_
      exact hj183 _ _ _ (by omega) (by omega) hm
  unfold j_X1_rename at hm
  refine zQ.s (fun h => zs_aload_n (i := 1) o dX1_rename_0 rfl rfl) ?_
  obtain ⟨g1, hm⟩ := gd_e hm
  refine zh_getR o g1 fl_X1_220_8 rfl dX1_rename_1 ?_
  obtain ⟨r2, e_r2, hm⟩ := lt_e hm
  refine zQ.nmr e_r2 ?_
  refine zQ.s (fun h => zs_astore_n (i := 2) o dX1_rename_4 rfl (by decide) (Or.inr (zc2_ref rfl)) (by simp only [List.set_cons_succ, List.set_cons_zero]; rfl)) ?_
  refine zQ.s (fun h => zs_aload_n (i := 1) o dX1_rename_5 rfl rfl) ?_
  refine zQ.s (fun h => zs_aload_n (i := 0) o dX1_rename_6 rfl rfl) ?_
  obtain ⟨g3, hm⟩ := gd_e hm
  refine zh_getI o g3 fl_X1_153_1 rfl dX1_rename_7 ?_
  obtain ⟨g4, hm⟩ := gd_e hm
  obtain ⟨g5, hm⟩ := gd_e hm
  obtain ⟨S6, e_S6, hm⟩ := lt_e hm
  refine zh_putI o g4 g5 fl_X1_522_8 rfl rfl ⟨rfl, rfl⟩ dX1_rename_10 e_S6 ?_
  refine zQ.s (fun h => zs_aload_n (i := 1) o dX1_rename_13 rfl rfl) ?_
  refine zQ.s (fun h => zs_aload_n (i := 0) o dX1_rename_14 rfl rfl) ?_
  obtain ⟨g7, hm⟩ := gd_e hm
  refine zh_getR o g7 fl_X1_60_1 rfl dX1_rename_15 ?_
  refine zQ.s (fun h => zs_aload_n (i := 2) o dX1_rename_18 rfl rfl) ?_
  obtain ⟨g8, hm⟩ := gd_e hm
  refine zh_getI o g8 fl_X1_525_4 rfl dX1_rename_19 ?_
  obtain ⟨g9, hm⟩ := gd_e hm
  obtain ⟨g10, hm⟩ := gd_e hm
  refine zh_iald o g9 g10 dX1_rename_22 ?_
  obtain ⟨g11, hm⟩ := gd_e hm
  obtain ⟨g12, hm⟩ := gd_e hm
  obtain ⟨S13, e_S13, hm⟩ := lt_e hm
  refine zh_putI o g11 g12 fl_X1_270_8 rfl rfl ⟨rfl, rfl⟩ dX1_rename_23 e_S13 ?_
  refine zQ.s (fun h => zs_aload_n (i := 1) o dX1_rename_26 rfl rfl) ?_
  refine zQ.s (fun h => zs_aload_n (i := 0) o dX1_rename_27 rfl rfl) ?_
  obtain ⟨g14, hm⟩ := gd_e hm
  refine zh_getR o g14 fl_X1_60_1 rfl dX1_rename_28 ?_
  refine zQ.s (fun h => zs_aload_n (i := 2) o dX1_rename_31 rfl rfl) ?_
  obtain ⟨g15, hm⟩ := gd_e hm
  refine zh_getI o g15 fl_X1_528_4 rfl dX1_rename_32 ?_
  obtain ⟨g16, hm⟩ := gd_e hm
  obtain ⟨g17, hm⟩ := gd_e hm
  refine zh_iald o g16 g17 dX1_rename_35 ?_
  obtain ⟨g18, hm⟩ := gd_e hm
  obtain ⟨g19, hm⟩ := gd_e hm
  obtain ⟨S20, e_S20, hm⟩ := lt_e hm
  refine zh_putI o g18 g19 fl_X1_244_8 rfl rfl ⟨rfl, rfl⟩ dX1_rename_36 e_S20 ?_
  refine zQ.s (fun h => zs_aload_n (i := 2) o dX1_rename_39 rfl rfl) ?_
  obtain ⟨g21, hm⟩ := gd_e hm
  obtain ⟨y22, c_y22, hm⟩ := bd_e hm
  refine zh_Vi o g21 ml_X1_224 (J_X4_hasResult G _ _ _ _  c_y22) dX1_rename_40 rfl rfl rfl rfl (by omega) (by omega) ?_
  refine zQ.b (fun h => zs_if_eq (tgt := 100) o dX1_rename_43 (by decide)) (fun c => ?_) (fun c => ?_)
  · have hm := if_e1 hm c
    exact hj100 _ _ _ _ _ _ (by omega) (by omega) hm
  · have hm := if_e2 hm c
    refine zQ.s (fun h => zs_aload_n (i := 1) o dX1_rename_46 rfl rfl) ?_
    refine zQ.s (fun h => zs_aload_n (i := 0) o dX1_rename_47 rfl rfl) ?_
    obtain ⟨g23, hm⟩ := gd_e hm
    refine zh_getR o g23 fl_X1_60_1 rfl dX1_rename_48 ?_
    refine zQ.s (fun h => zs_aload_n (i := 2) o dX1_rename_51 rfl rfl) ?_
    obtain ⟨g24, hm⟩ := gd_e hm
    refine zh_getI o g24 fl_X1_340_4 rfl dX1_rename_52 ?_
    obtain ⟨g25, hm⟩ := gd_e hm
    obtain ⟨g26, hm⟩ := gd_e hm
    refine zh_iald o g25 g26 dX1_rename_55 ?_
    obtain ⟨g27, hm⟩ := gd_e hm
    obtain ⟨g28, hm⟩ := gd_e hm
    obtain ⟨S29, e_S29, hm⟩ := lt_e hm
    refine zh_putI o g27 g28 fl_X1_343_8 rfl rfl ⟨rfl, rfl⟩ dX1_rename_56 e_S29 ?_
    refine zQ.s (fun h => zs_aload_n (i := 1) o dX1_rename_59 rfl rfl) ?_
    refine zQ.s (fun h => zs_aload_n (i := 0) o dX1_rename_60 rfl rfl) ?_
    obtain ⟨g30, hm⟩ := gd_e hm
    refine zh_getR o g30 fl_X1_69_1 rfl dX1_rename_61 ?_
    obtain ⟨g31, hm⟩ := gd_e hm
    obtain ⟨y32, c_y32, hm⟩ := bd_e hm
    refine zh_Vr o g31 ml_X1_518 (J_J4_removeFirst G _ _ _ _  c_y32) dX1_rename_64 rfl rfl rfl rfl (by omega) (by omega) ?_
    obtain ⟨g33, hm⟩ := gd_e hm
    refine zh_cast (c := 19) o q1456 (by decide) (by decide) g33 dX1_rename_67 ?_
    obtain ⟨g34, hm⟩ := gd_e hm
    obtain ⟨y35, c_y35, hm⟩ := bd_e hm
    refine zh_Vi o g34 ml_X1_531 (J_J21_intValue G _ _ _ _  c_y35) dX1_rename_70 rfl rfl rfl rfl (by omega) (by omega) ?_
    obtain ⟨g36, hm⟩ := gd_e hm
    obtain ⟨g37, hm⟩ := gd_e hm
    obtain ⟨S38, e_S38, hm⟩ := lt_e hm
    refine zh_putI o g36 g37 fl_X1_328_8 rfl rfl ⟨rfl, rfl⟩ dX1_rename_73 e_S38 ?_
    refine zQ.s (fun h => zs_aload_n (i := 0) o dX1_rename_76 rfl rfl) ?_
    obtain ⟨g39, hm⟩ := gd_e hm
    refine zh_getR o g39 fl_X1_56_1 rfl dX1_rename_77 ?_
    refine zQ.s (fun h => zs_aload_n (i := 1) o dX1_rename_80 rfl rfl) ?_
    obtain ⟨g40, hm⟩ := gd_e hm
    refine zh_getI o g40 fl_X1_328_8 rfl dX1_rename_81 ?_
    obtain ⟨g41, hm⟩ := gd_e hm
    obtain ⟨y42, c_y42, hm⟩ := bd_e hm
    refine zh_Vv o g41 ml_X1_534 (J_J3_clear G _ _ _ _ z_ad c_y42) dX1_rename_84 rfl rfl rfl rfl (by omega) (by omega) ?_
    refine zQ.s (fun h => zs_aload_n (i := 0) o dX1_rename_87 rfl rfl) ?_
    obtain ⟨g43, hm⟩ := gd_e hm
    refine zh_getR o g43 fl_X1_60_1 rfl dX1_rename_88 ?_
    refine zQ.s (fun h => zs_aload_n (i := 2) o dX1_rename_91 rfl rfl) ?_
    obtain ⟨g44, hm⟩ := gd_e hm
    refine zh_getI o g44 fl_X1_340_4 rfl dX1_rename_92 ?_
    refine zQ.s (fun h => zs_aload_n (i := 1) o dX1_rename_95 rfl rfl) ?_
    obtain ⟨g45, hm⟩ := gd_e hm
    refine zh_getI o g45 fl_X1_328_8 rfl dX1_rename_96 ?_
    obtain ⟨g46, hm⟩ := gd_e hm
    obtain ⟨g47, hm⟩ := gd_e hm
    obtain ⟨g48, hm⟩ := gd_e hm
    obtain ⟨S49, e_S49, hm⟩ := lt_e hm
    refine zh_iast o g46 g47 g48 dX1_rename_99 e_S49 ?_
    exact hj100 _ _ _ _ _ _ (by omega) (by omega) hm

def j_X1_renameAll_j56 (h : zH) : Option zH :=
  some h
def j_X1_renameAll_b5 (k5 : zH → Nat → Int32 → Option zH) (h : zH) (x0 : Nat) (x1 : Int32) : Option zH :=
  if x1 ≤ (0 : Int32) then
    j_X1_renameAll_j56 h
  else
    gd (kd h x0 1) <|
    gd (kd h (hR h 1 14 x0) 12) <|
    bd (j_J4_isEmpty h (hR h 1 14 x0)) fun y3 =>
    if y3.2 = (0 : Int32) then
      gd (kd y3.1 x0 1) <|
      gd (kd y3.1 (hR y3.1 1 14 x0) 12) <|
      bd (j_J4_getFirst y3.1 (hR y3.1 1 14 x0)) fun y6 =>
      gd (kd y6.1 y6.2 8) <|
      gd (kd y6.1 x0 1) <|
      bd (j_X1_canRename y6.1 x0 y6.2) fun y9 =>
      if y9.2 = (0 : Int32) then
        j_X1_renameAll_j56 y9.1
      else
        gd (kd y9.1 x0 1) <|
        gd (kd y9.1 (hR y9.1 1 14 x0) 12) <|
        bd (j_J4_removeFirst y9.1 (hR y9.1 1 14 x0)) fun y12 =>
        gd (kd y12.1 y12.2 8) <|
        gd (kd y12.1 x0 1) <|
        bd (j_X1_rename y12.1 x0 y12.2) fun y15 =>
        k5 y15 x0 (x1 + (-1 : Int32))
    else
      j_X1_renameAll_j56 y3.1
def j_X1_renameAll_l5 : Nat → zH → Nat → Int32 → Option zH
  | 0 => fun _ _ _ => none
  | n + 1 => j_X1_renameAll_b5 (j_X1_renameAll_l5 n)
def j_X1_renameAll (h : zH) (p : Nat) : Option zH :=
  gd (kd h p 1) <|
  lt (hI h 1 5 p) fun v2 =>
  j_X1_renameAll_l5 5 h p v2

set_option maxHeartbeats 40000000 in
theorem J_X1_renameAll (G : zG) (h : zH) (p : Nat) (h9 : zH) (z_ad : ("java/util/BitSet", "$assertionsDisabled", "Z", .int 1) ∈ zGz G) (hm : j_X1_renameAll h p = some h9) : zJv G yX1_renameAll cX1_renameAll 2 none 5 10 30 [zrf p] h h9 := by
  refine zCo.st [some (zrf p), none] rfl rfl (by simp only [zarg_r, zarg_i, zarg_l, zarg_0]; rfl) (fun X o f0 hin hw0 => ?_)
  have f := f0.e
  have hin : (Xt X).name = "renameAll" := hin
  refine (?_ : zQ (EH h) G X 0 0 0 [some (zrf p), none] []) h rfl hw0
  clear hw0
  generalize hR9 : (h9 : zH) = R at hm
  have hj56 : ∀ (h : zH) (cl sl : Nat), cl + (0) ≤ 10 → sl + (0) ≤ 30 → j_X1_renameAll_j56 h = some R → zQ (EH h) G X cl sl 56 [none, none] [] := by
    intro h cl sl hc hs hm
    unfold j_X1_renameAll_j56 at hm
    refine zh_retv o f dX1_renameAll_56 (by omega) (by omega) ((so_e hm).trans hR9.symm)
  have hl5 : ∀ (n5 : Nat), n5 ≤ 5 → ∀ (h : zH) (x0 : Nat) (x1 : Int32) (cl sl : Nat), cl + (n5 * 2 + 0) ≤ 10 → sl + (n5 * 6 + 0) ≤ 30 → j_X1_renameAll_l5 n5 h x0 x1 = some R → zQ (EH h) G X cl sl 5 [some (zrf x0), some (.int x1)] [] := by
    intro n5
    induction n5 with
    | zero => intro _ h x0 x1 cl sl _ _ hm; exact no_e hm
    | succ n5 ih =>
      intro hf5
      have ih5 := ih (by omega)
      intro h x0 x1 cl sl hc hs hm
      have hm : j_X1_renameAll_b5 (j_X1_renameAll_l5 n5) h x0 x1 = some R := hm
      unfold j_X1_renameAll_b5 at hm
      refine zQ.s (fun h => zs_iload_n (i := 1) o dX1_renameAll_5 rfl rfl) ?_
      refine zQ.b (fun h => zs_if_le (tgt := 56) o dX1_renameAll_6 (by decide)) (fun c => ?_) (fun c => ?_)
      · have hm := if_e1 hm c
        refine zQ.fg (zl_n (zl_n zl_0)) ?_
        exact hj56 _ _ _ (by omega) (by omega) hm
      · have hm := if_e2 hm c
        refine zQ.s (fun h => zs_aload_n (i := 0) o dX1_renameAll_9 rfl rfl) ?_
        obtain ⟨g1, hm⟩ := gd_e hm
        refine zh_getR o g1 fl_X1_73_1 rfl dX1_renameAll_10 ?_
        obtain ⟨g2, hm⟩ := gd_e hm
        obtain ⟨y3, c_y3, hm⟩ := bd_e hm
        refine zh_Vi o g2 ml_X1_507 (J_J4_isEmpty G _ _ _ _  c_y3) dX1_renameAll_13 rfl rfl rfl rfl (by omega) (by omega) ?_
        refine zQ.b (fun h => zs_if_ne (tgt := 56) o dX1_renameAll_16 (by decide)) (fun c => ?_) (fun c => ?_)
        · have hm := if_e2 hm c
          refine zQ.fg (zl_n (zl_n zl_0)) ?_
          exact hj56 _ _ _ (by omega) (by omega) hm
        · have hm := if_e1 hm c
          refine zQ.s (fun h => zs_aload_n (i := 0) o dX1_renameAll_19 rfl rfl) ?_
          refine zQ.s (fun h => zs_aload_n (i := 0) o dX1_renameAll_20 rfl rfl) ?_
          obtain ⟨g4, hm⟩ := gd_e hm
          refine zh_getR o g4 fl_X1_73_1 rfl dX1_renameAll_21 ?_
          obtain ⟨g5, hm⟩ := gd_e hm
          obtain ⟨y6, c_y6, hm⟩ := bd_e hm
          refine zh_Vr o g5 ml_X1_514 (J_J4_getFirst G _ _ _ _  c_y6) dX1_renameAll_24 rfl rfl rfl rfl (by omega) (by omega) ?_
          obtain ⟨g7, hm⟩ := gd_e hm
          refine zh_cast (c := 8) o q1468 (by decide) (by decide) g7 dX1_renameAll_27 ?_
          obtain ⟨g8, hm⟩ := gd_e hm
          obtain ⟨y9, c_y9, hm⟩ := bd_e hm
          refine zh_Vi o g8 ml_X1_515 (J_X1_canRename G _ _ _ _ _  c_y9) dX1_renameAll_30 rfl rfl rfl rfl (by omega) (by omega) ?_
          refine zQ.b (fun h => zs_if_eq (tgt := 56) o dX1_renameAll_33 (by decide)) (fun c => ?_) (fun c => ?_)
          · have hm := if_e1 hm c
            refine zQ.fg (zl_n (zl_n zl_0)) ?_
            exact hj56 _ _ _ (by omega) (by omega) hm
          · have hm := if_e2 hm c
            refine zQ.s (fun h => zs_aload_n (i := 0) o dX1_renameAll_36 rfl rfl) ?_
            refine zQ.s (fun h => zs_aload_n (i := 0) o dX1_renameAll_37 rfl rfl) ?_
            obtain ⟨g10, hm⟩ := gd_e hm
            refine zh_getR o g10 fl_X1_73_1 rfl dX1_renameAll_38 ?_
            obtain ⟨g11, hm⟩ := gd_e hm
            obtain ⟨y12, c_y12, hm⟩ := bd_e hm
            refine zh_Vr o g11 ml_X1_518 (J_J4_removeFirst G _ _ _ _  c_y12) dX1_renameAll_41 rfl rfl rfl rfl (by omega) (by omega) ?_
            obtain ⟨g13, hm⟩ := gd_e hm
            refine zh_cast (c := 8) o q1468 (by decide) (by decide) g13 dX1_renameAll_44 ?_
            obtain ⟨g14, hm⟩ := gd_e hm
            obtain ⟨y15, c_y15, hm⟩ := bd_e hm
            refine zh_Vv o g14 ml_X1_519 (J_X1_rename G _ _ _ _ z_ad c_y15) dX1_renameAll_47 rfl rfl rfl rfl (by omega) (by omega) ?_
            refine zQ.s (fun h => zs_iinc (i := 1) (v := x1 + (-1 : Int32)) o dX1_renameAll_50 rfl rfl (by decide) (Or.inr (zc2_ref rfl)) (by simp only [List.set_cons_succ, List.set_cons_zero]; rfl)) ?_
            refine zQ.s (fun h => zs_goto (tgt := 5) o dX1_renameAll_53 (by decide)) ?_
            exact ih5 _ _ _ _ _ (by omega) (by omega) hm
  unfold j_X1_renameAll at hm
  refine zQ.s (fun h => zs_aload_n (i := 0) o dX1_renameAll_0 rfl rfl) ?_
  obtain ⟨g1, hm⟩ := gd_e hm
  refine zh_getI o g1 fl_X1_37_1 rfl dX1_renameAll_1 ?_
  obtain ⟨v2, e_v2, hm⟩ := lt_e hm
  refine zQ.nmi e_v2 ?_
  refine zQ.s (fun h => zs_istore_n (i := 1) o dX1_renameAll_4 rfl (by decide) (Or.inr (zc2_ref rfl)) (by simp only [List.set_cons_succ, List.set_cons_zero]; rfl)) ?_
  exact hl5 5 (Nat.le_refl _) _ _ _ _ _ (by omega) (by omega) hm

def j_X1_push_b19 (k19 : zH → Nat → Int32 → Int32 → Nat → Int32 → Option zH) (h : zH) (x0 : Nat) (x1 : Int32) (x2 : Int32) (x3 : Nat) (x4 : Int32) : Option zH :=
  if x2 ≤ x4 then
    gd (kd h x3 201) <|
    gd (wr h x3) <|
    gd (inb x2 (zN h x3)) <|
    lt (pI h 201 (ix x2) x3 x1) fun S4 =>
    gd (kd S4 x0 1) <|
    gd (wr S4 x0) <|
    lt (pR S4 1 19 x0 x3) fun S7 =>
    some S7
  else
    gd (kd h x0 1) <|
    gd (kd h x0 1) <|
    gd (isA h (hR h 1 19 x0)) <|
    gd (kd h (hR h 1 19 x0) 201) <|
    gd (inb (((nI (zN h (hR h 1 19 x0))) - x2) + x4) (zN h (hR h 1 19 x0))) <|
    gd (kd h x3 201) <|
    gd (wr h x3) <|
    gd (inb x4 (zN h x3)) <|
    lt (pI h 201 (ix x4) x3 (hI h 201 (ix (((nI (zN h (hR h 1 19 x0))) - x2) + x4)) (hR h 1 19 x0))) fun S16 =>
    k19 S16 x0 x1 x2 x3 (x4 + (1 : Int32))
def j_X1_push_l19 : Nat → zH → Nat → Int32 → Int32 → Nat → Int32 → Option zH
  | 0 => fun _ _ _ _ _ _ => none
  | n + 1 => j_X1_push_b19 (j_X1_push_l19 n)
def j_X1_push (h : zH) (p : Nat) (a1 : Int32) : Option zH :=
  gd (kd h p 1) <|
  gd (isA h (hR h 1 19 p)) <|
  lt (imn (nI (zN h (hR h 1 19 p))) (3 : Int32)) fun v3 =>
  lt (zT h + 1) fun r4 =>
  gd (asz (v3 + (1 : Int32)) 4) <|
  lt (nw h 201 29 (ix (v3 + (1 : Int32)))) fun S6 =>
  j_X1_push_l19 5 S6 p a1 v3 r4 (0 : Int32)

set_option maxHeartbeats 40000000 in
theorem J_X1_push (G : zG) (h : zH) (p : Nat) (a1 : Int32) (h9 : zH) (hm : j_X1_push h p a1 = some h9) : zJv G yX1_push cX1_push 5 none 1 1 4 [zrf p, .int a1] h h9 := by
  refine zCo.st [some (zrf p), some (.int a1), none, none, none] rfl rfl (by simp only [zarg_r, zarg_i, zarg_l, zarg_0]; rfl) (fun X o f0 hin hw0 => ?_)
  have f := f0.e
  have hin : (Xt X).name = "push" := hin
  refine (?_ : zQ (EH h) G X 0 0 0 [some (zrf p), some (.int a1), none, none, none] []) h rfl hw0
  clear hw0
  generalize hR9 : (h9 : zH) = R at hm
  have hl19 : ∀ (n19 : Nat), n19 ≤ 5 → ∀ (h : zH) (x0 : Nat) (x1 : Int32) (x2 : Int32) (x3 : Nat) (x4 : Int32) (cl sl : Nat), cl + (0) ≤ 1 → sl + (0) ≤ 4 → j_X1_push_l19 n19 h x0 x1 x2 x3 x4 = some R → zQ (EH h) G X cl sl 19 [some (zrf x0), some (.int x1), some (.int x2), some (zrf x3), some (.int x4)] [] := by
    intro n19
    induction n19 with
    | zero => intro _ h x0 x1 x2 x3 x4 cl sl _ _ hm; exact no_e hm
    | succ n19 ih =>
      intro hf19
      have ih19 := ih (by omega)
      intro h x0 x1 x2 x3 x4 cl sl hc hs hm
      have hm : j_X1_push_b19 (j_X1_push_l19 n19) h x0 x1 x2 x3 x4 = some R := hm
      unfold j_X1_push_b19 at hm
      refine zQ.s (fun h => zs_iload (i := 4) o dX1_push_19 rfl) ?_
      refine zQ.s (fun h => zs_iload_n (i := 2) o dX1_push_21 rfl rfl) ?_
      refine zQ.b (fun h => zs_icmp_ge (tgt := 50) o dX1_push_22 (by decide)) (fun c => ?_) (fun c => ?_)
      · have hm := if_e1 hm c
        refine zQ.s (fun h => zs_aload_n (i := 3) o dX1_push_50 rfl rfl) ?_
        refine zQ.s (fun h => zs_iload_n (i := 2) o dX1_push_51 rfl rfl) ?_
        refine zQ.s (fun h => zs_iload_n (i := 1) o dX1_push_52 rfl rfl) ?_
        obtain ⟨g1, hm⟩ := gd_e hm
        obtain ⟨g2, hm⟩ := gd_e hm
        obtain ⟨g3, hm⟩ := gd_e hm
        obtain ⟨S4, e_S4, hm⟩ := lt_e hm
        refine zh_iast o g1 g2 g3 dX1_push_53 e_S4 ?_
        refine zQ.s (fun h => zs_aload_n (i := 0) o dX1_push_54 rfl rfl) ?_
        refine zQ.s (fun h => zs_aload_n (i := 3) o dX1_push_55 rfl rfl) ?_
        obtain ⟨g5, hm⟩ := gd_e hm
        obtain ⟨g6, hm⟩ := gd_e hm
        obtain ⟨S7, e_S7, hm⟩ := lt_e hm
        refine zh_putR o g5 g6 fl_X1_86_1 rfl rfl dX1_push_56 e_S7 ?_
        refine zh_retv o f dX1_push_59 (by omega) (by omega) ((so_e hm).trans hR9.symm)
      · have hm := if_e2 hm c
        refine zQ.s (fun h => zs_aload_n (i := 3) o dX1_push_25 rfl rfl) ?_
        refine zQ.s (fun h => zs_iload (i := 4) o dX1_push_26 rfl) ?_
        refine zQ.s (fun h => zs_aload_n (i := 0) o dX1_push_28 rfl rfl) ?_
        obtain ⟨g8, hm⟩ := gd_e hm
        refine zh_getR o g8 fl_X1_86_1 rfl dX1_push_29 ?_
        refine zQ.s (fun h => zs_aload_n (i := 0) o dX1_push_32 rfl rfl) ?_
        obtain ⟨g9, hm⟩ := gd_e hm
        refine zh_getR o g9 fl_X1_86_1 rfl dX1_push_33 ?_
        obtain ⟨g10, hm⟩ := gd_e hm
        refine zh_alen o g10 dX1_push_36 ?_
        refine zQ.s (fun h => zs_iload_n (i := 2) o dX1_push_37 rfl rfl) ?_
        refine zQ.s (fun h => zs_isub o dX1_push_38) ?_
        refine zQ.s (fun h => zs_iload (i := 4) o dX1_push_39 rfl) ?_
        refine zQ.s (fun h => zs_iadd o dX1_push_41) ?_
        obtain ⟨g11, hm⟩ := gd_e hm
        obtain ⟨g12, hm⟩ := gd_e hm
        refine zh_iald o g11 g12 dX1_push_42 ?_
        obtain ⟨g13, hm⟩ := gd_e hm
        obtain ⟨g14, hm⟩ := gd_e hm
        obtain ⟨g15, hm⟩ := gd_e hm
        obtain ⟨S16, e_S16, hm⟩ := lt_e hm
        refine zh_iast o g13 g14 g15 dX1_push_43 e_S16 ?_
        refine zQ.s (fun h => zs_iinc (i := 4) (v := x4 + (1 : Int32)) o dX1_push_44 rfl rfl (by decide) (Or.inr (zc2_ref rfl)) (by simp only [List.set_cons_succ, List.set_cons_zero]; rfl)) ?_
        refine zQ.s (fun h => zs_goto (tgt := 19) o dX1_push_47 (by decide)) ?_
        exact ih19 _ _ _ _ _ _ _ _ (by omega) (by omega) hm
  unfold j_X1_push at hm
  refine zQ.s (fun h => zs_aload_n (i := 0) o dX1_push_0 rfl rfl) ?_
  obtain ⟨g1, hm⟩ := gd_e hm
  refine zh_getR o g1 fl_X1_86_1 rfl dX1_push_1 ?_
  obtain ⟨g2, hm⟩ := gd_e hm
  refine zh_alen o g2 dX1_push_4 ?_
  refine zQ.s (fun h => zs_iconst (v := 3) o dX1_push_5 (by decide)) ?_
  refine zQ.s (fun h => zs_mmin o q1987 q421 q127 q422 rfl rfl (by omega) (by omega) dX1_push_6) ?_
  obtain ⟨v3, e_v3, hm⟩ := lt_e hm
  refine zQ.nmi e_v3 ?_
  refine zQ.s (fun h => zs_istore_n (i := 2) o dX1_push_9 rfl (by decide) (Or.inr rfl) (by simp only [List.set_cons_succ, List.set_cons_zero]; rfl)) ?_
  refine zQ.s (fun h => zs_iload_n (i := 2) o dX1_push_10 rfl rfl) ?_
  refine zQ.s (fun h => zs_iconst (v := 1) o dX1_push_11 (by decide)) ?_
  refine zQ.s (fun h => zs_iadd o dX1_push_12) ?_
  obtain ⟨r4, e_r4, hm⟩ := lt_e hm
  obtain ⟨g5, hm⟩ := gd_e hm
  have hz_g5 := asz_m g5
  obtain ⟨S6, e_S6, hm⟩ := lt_e hm
  refine zh_newarr (c := 201) o (by decide) rfl q222 (asz_n g5) rfl (Nat.le_trans (asz_m g5) (by decide)) dX1_push_13 (by omega) (by omega) e_S6 ?_
  refine zQ.nmr e_r4 ?_
  refine zQ.s (fun h => zs_astore_n (i := 3) o dX1_push_15 rfl (by decide) (Or.inr rfl) (by simp only [List.set_cons_succ, List.set_cons_zero]; rfl)) ?_
  refine zQ.s (fun h => zs_iconst (v := 0) o dX1_push_16 (by decide)) ?_
  refine zQ.s (fun h => zs_istore (i := 4) o dX1_push_17 (by decide) (Or.inr (zc2_ref rfl)) (by simp only [List.set_cons_succ, List.set_cons_zero]; rfl)) ?_
  exact hl19 5 (Nat.le_refl _) _ _ _ _ _ _ _ _ (by omega) (by omega) hm

def j_X1_pop_b22 (k22 : zH → Nat → Nat → Int32 → Option (zH × Int32)) (h : zH) (x0 : Nat) (x2 : Nat) (x3 : Int32) : Option (zH × Int32) :=
  gd (isA h x2) <|
  if (nI (zN h x2)) ≤ x3 then
    gd (kd h x0 1) <|
    gd (isA h x2) <|
    gd (kd h (hR h 1 19 x0) 201) <|
    gd (inb (nI (zN h x2)) (zN h (hR h 1 19 x0))) <|
    lt (hI h 201 (ix (nI (zN h x2))) (hR h 1 19 x0)) fun v6 =>
    gd (kd h x0 1) <|
    gd (wr h x0) <|
    lt (pR h 1 19 x0 x2) fun S9 =>
    some (S9, v6)
  else
    gd (kd h x0 1) <|
    gd (kd h (hR h 1 19 x0) 201) <|
    gd (inb x3 (zN h (hR h 1 19 x0))) <|
    gd (kd h x2 201) <|
    gd (wr h x2) <|
    gd (inb x3 (zN h x2)) <|
    lt (pI h 201 (ix x3) x2 (hI h 201 (ix x3) (hR h 1 19 x0))) fun S16 =>
    k22 S16 x0 x2 (x3 + (1 : Int32))
def j_X1_pop_l22 : Nat → zH → Nat → Nat → Int32 → Option (zH × Int32)
  | 0 => fun _ _ _ _ => none
  | n + 1 => j_X1_pop_b22 (j_X1_pop_l22 n)
def j_X1_pop (h : zH) (p : Nat) (a1 : Int32) : Option (zH × Int32) :=
  gd (kd h p 1) <|
  gd (isA h (hR h 1 19 p)) <|
  if (nI (zN h (hR h 1 19 p))) = (0 : Int32) then
    some (h, a1)
  else
    gd (kd h p 1) <|
    gd (isA h (hR h 1 19 p)) <|
    lt (zT h + 1) fun r5 =>
    gd (asz ((nI (zN h (hR h 1 19 p))) - (1 : Int32)) 4) <|
    lt (nw h 201 29 (ix ((nI (zN h (hR h 1 19 p))) - (1 : Int32)))) fun S7 =>
    j_X1_pop_l22 5 S7 p r5 (0 : Int32)

set_option maxHeartbeats 40000000 in
theorem J_X1_pop (G : zG) (h : zH) (p : Nat) (a1 : Int32) (V : Int32) (h9 : zH) (hm : j_X1_pop h p a1 = some (h9, V)) : zJi G yX1_pop cX1_pop 4 (some .int) 0 1 4 [zrf p, .int a1] h V h9 := by
  refine zCo.st [some (zrf p), some (.int a1), none, none] rfl rfl (by simp only [zarg_r, zarg_i, zarg_l, zarg_0]; rfl) (fun X o f0 hin hw0 => ?_)
  have f := f0.e
  have hin : (Xt X).name = "pop" := hin
  refine (?_ : zQ (EH h) G X 0 0 0 [some (zrf p), some (.int a1), none, none] []) h rfl hw0
  clear hw0
  generalize hR9 : ((h9, V) : (zH × Int32)) = R at hm
  have hl22 : ∀ (n22 : Nat), n22 ≤ 5 → ∀ (h : zH) (x0 : Nat) (x2 : Nat) (x3 : Int32) (cl sl : Nat), cl + (0) ≤ 1 → sl + (0) ≤ 4 → j_X1_pop_l22 n22 h x0 x2 x3 = some R → zQ (EH h) G X cl sl 22 [some (zrf x0), none, some (zrf x2), some (.int x3)] [] := by
    intro n22
    induction n22 with
    | zero => intro _ h x0 x2 x3 cl sl _ _ hm; exact no_e hm
    | succ n22 ih =>
      intro hf22
      have ih22 := ih (by omega)
      intro h x0 x2 x3 cl sl hc hs hm
      have hm : j_X1_pop_b22 (j_X1_pop_l22 n22) h x0 x2 x3 = some R := hm
      unfold j_X1_pop_b22 at hm
      refine zQ.s (fun h => zs_iload_n (i := 3) o dX1_pop_22 rfl rfl) ?_
      refine zQ.s (fun h => zs_aload_n (i := 2) o dX1_pop_23 rfl rfl) ?_
      obtain ⟨g1, hm⟩ := gd_e hm
      refine zh_alen o g1 dX1_pop_24 ?_
      refine zQ.b (fun h => zs_icmp_ge (tgt := 43) o dX1_pop_25 (by decide)) (fun c => ?_) (fun c => ?_)
      · have hm := if_e1 hm c
        refine zQ.s (fun h => zs_aload_n (i := 0) o dX1_pop_43 rfl rfl) ?_
        obtain ⟨g2, hm⟩ := gd_e hm
        refine zh_getR o g2 fl_X1_86_1 rfl dX1_pop_44 ?_
        refine zQ.s (fun h => zs_aload_n (i := 2) o dX1_pop_47 rfl rfl) ?_
        obtain ⟨g3, hm⟩ := gd_e hm
        refine zh_alen o g3 dX1_pop_48 ?_
        obtain ⟨g4, hm⟩ := gd_e hm
        obtain ⟨g5, hm⟩ := gd_e hm
        refine zh_iald o g4 g5 dX1_pop_49 ?_
        obtain ⟨v6, e_v6, hm⟩ := lt_e hm
        refine zQ.nmi e_v6 ?_
        refine zQ.s (fun h => zs_istore_n (i := 3) o dX1_pop_50 rfl (by decide) (Or.inr (zc2_ref rfl)) (by simp only [List.set_cons_succ, List.set_cons_zero]; rfl)) ?_
        refine zQ.s (fun h => zs_aload_n (i := 0) o dX1_pop_51 rfl rfl) ?_
        refine zQ.s (fun h => zs_aload_n (i := 2) o dX1_pop_52 rfl rfl) ?_
        obtain ⟨g7, hm⟩ := gd_e hm
        obtain ⟨g8, hm⟩ := gd_e hm
        obtain ⟨S9, e_S9, hm⟩ := lt_e hm
        refine zh_putR o g7 g8 fl_X1_86_1 rfl rfl dX1_pop_53 e_S9 ?_
        refine zQ.s (fun h => zs_iload_n (i := 3) o dX1_pop_56 rfl rfl) ?_
        refine zh_reti o f dX1_pop_57 rfl (by omega) (by omega) ((so_e hm).trans hR9.symm)
      · have hm := if_e2 hm c
        refine zQ.s (fun h => zs_aload_n (i := 2) o dX1_pop_28 rfl rfl) ?_
        refine zQ.s (fun h => zs_iload_n (i := 3) o dX1_pop_29 rfl rfl) ?_
        refine zQ.s (fun h => zs_aload_n (i := 0) o dX1_pop_30 rfl rfl) ?_
        obtain ⟨g10, hm⟩ := gd_e hm
        refine zh_getR o g10 fl_X1_86_1 rfl dX1_pop_31 ?_
        refine zQ.s (fun h => zs_iload_n (i := 3) o dX1_pop_34 rfl rfl) ?_
        obtain ⟨g11, hm⟩ := gd_e hm
        obtain ⟨g12, hm⟩ := gd_e hm
        refine zh_iald o g11 g12 dX1_pop_35 ?_
        obtain ⟨g13, hm⟩ := gd_e hm
        obtain ⟨g14, hm⟩ := gd_e hm
        obtain ⟨g15, hm⟩ := gd_e hm
        obtain ⟨S16, e_S16, hm⟩ := lt_e hm
        refine zh_iast o g13 g14 g15 dX1_pop_36 e_S16 ?_
        refine zQ.s (fun h => zs_iinc (i := 3) (v := x3 + (1 : Int32)) o dX1_pop_37 rfl rfl (by decide) (Or.inr (zc2_ref rfl)) (by simp only [List.set_cons_succ, List.set_cons_zero]; rfl)) ?_
        refine zQ.s (fun h => zs_goto (tgt := 22) o dX1_pop_40 (by decide)) ?_
        exact ih22 _ _ _ _ _ _ (by omega) (by omega) hm
  unfold j_X1_pop at hm
  refine zQ.s (fun h => zs_aload_n (i := 0) o dX1_pop_0 rfl rfl) ?_
  obtain ⟨g1, hm⟩ := gd_e hm
  refine zh_getR o g1 fl_X1_86_1 rfl dX1_pop_1 ?_
  obtain ⟨g2, hm⟩ := gd_e hm
  refine zh_alen o g2 dX1_pop_4 ?_
  refine zQ.b (fun h => zs_if_ne (tgt := 10) o dX1_pop_5 (by decide)) (fun c => ?_) (fun c => ?_)
  · have hm := if_e2 hm c
    refine zQ.s (fun h => zs_aload_n (i := 0) o dX1_pop_10 rfl rfl) ?_
    obtain ⟨g3, hm⟩ := gd_e hm
    refine zh_getR o g3 fl_X1_86_1 rfl dX1_pop_11 ?_
    obtain ⟨g4, hm⟩ := gd_e hm
    refine zh_alen o g4 dX1_pop_14 ?_
    refine zQ.s (fun h => zs_iconst (v := 1) o dX1_pop_15 (by decide)) ?_
    refine zQ.s (fun h => zs_isub o dX1_pop_16) ?_
    obtain ⟨r5, e_r5, hm⟩ := lt_e hm
    obtain ⟨g6, hm⟩ := gd_e hm
    have hz_g6 := asz_m g6
    obtain ⟨S7, e_S7, hm⟩ := lt_e hm
    refine zh_newarr (c := 201) o (by decide) rfl q222 (asz_n g6) rfl (Nat.le_trans (asz_m g6) (by decide)) dX1_pop_17 (by omega) (by omega) e_S7 ?_
    refine zQ.nmr e_r5 ?_
    refine zQ.s (fun h => zs_astore_n (i := 2) o dX1_pop_19 rfl (by decide) (Or.inr rfl) (by simp only [List.set_cons_succ, List.set_cons_zero]; rfl)) ?_
    refine zQ.s (fun h => zs_iconst (v := 0) o dX1_pop_20 (by decide)) ?_
    refine zQ.s (fun h => zs_istore_n (i := 3) o dX1_pop_21 rfl (by decide) (Or.inr (zc2_ref rfl)) (by simp only [List.set_cons_succ, List.set_cons_zero]; rfl)) ?_
    refine zQ.fg (zl_s (zl_n (zl_s (zl_s zl_0)))) ?_
    exact hl22 5 (Nat.le_refl _) _ _ _ _ _ _ (by omega) (by omega) hm
  · have hm := if_e1 hm c
    refine zQ.s (fun h => zs_iload_n (i := 1) o dX1_pop_8 rfl rfl) ?_
    refine zh_reti o f dX1_pop_9 rfl (by omega) (by omega) ((so_e hm).trans hR9.symm)

def j_X1_guessFor_j69 (h : zH) (s0 : Int32) : Option (zH × Int32) :=
  some (h, s0)
def j_X1_guessFor_j114 (h : zH) (s0 : Int32) : Option (zH × Int32) :=
  some (h, s0)
def j_X1_guessFor (h : zH) (p : Nat) (a1 : Nat) (a2 : Int32) : Option (zH × Int32) :=
  lt (a2 + (1 : Int32)) fun v1 =>
  gd (kd h a1 4) <|
  if (hI h 4 0 a1) = (12 : Int32) then
    gd (kd h p 1) <|
    gd (kd h (hR h 1 20 p) 201) <|
    gd (inb (irm a2 (16 : Int32)) (zN h (hR h 1 20 p))) <|
    if (hI h 201 (ix (irm a2 (16 : Int32))) (hR h 1 20 p)) < (2 : Int32) then
      j_X1_guessFor_j69 h v1
    else
      gd (kd h a1 4) <|
      j_X1_guessFor_j69 h (hI h 4 4 a1)
  else
  if (hI h 4 0 a1) = (13 : Int32) then
    gd (kd h p 1) <|
    gd (kd h (hR h 1 20 p) 201) <|
    gd (inb (irm a2 (16 : Int32)) (zN h (hR h 1 20 p))) <|
    if (hI h 201 (ix (irm a2 (16 : Int32))) (hR h 1 20 p)) < (2 : Int32) then
      j_X1_guessFor_j69 h v1
    else
      gd (kd h a1 4) <|
      j_X1_guessFor_j69 h (hI h 4 4 a1)
  else
  if (hI h 4 0 a1) = (14 : Int32) then
    gd (kd h a1 4) <|
    some (h, hI h 4 4 a1)
  else
  if (hI h 4 0 a1) = (15 : Int32) then
    gd (kd h p 1) <|
    bd (j_X1_push h p v1) fun y13 =>
    gd (kd y13 a1 4) <|
    some (y13, hI y13 4 4 a1)
  else
  if (hI h 4 0 a1) = (16 : Int32) then
    gd (kd h p 1) <|
    bd (j_X1_pop h p v1) fun y16 =>
    some (y16.1, y16.2)
  else
  if (hI h 4 0 a1) = (17 : Int32) then
    gd (kd h p 1) <|
    gd (kd h (hR h 1 21 p) 201) <|
    gd (inb (irm a2 (8 : Int32)) (zN h (hR h 1 21 p))) <|
    lt (hI h 201 (ix (irm a2 (8 : Int32))) (hR h 1 21 p)) fun v20 =>
    if v20 = (-1 : Int32) then
      j_X1_guessFor_j114 h v1
    else
      j_X1_guessFor_j114 h v20
  else
  some (h, v1)

set_option maxHeartbeats 40000000 in
theorem J_X1_guessFor (G : zG) (h : zH) (p : Nat) (a1 : Nat) (a2 : Int32) (V : Int32) (h9 : zH) (hm : j_X1_guessFor h p a1 a2 = some (h9, V)) : zJi G yX1_guessFor cX1_guessFor 5 (some .int) 2 1 4 [zrf p, zrf a1, .int a2] h V h9 := by
  refine zCo.st [some (zrf p), some (zrf a1), some (.int a2), none, none] rfl rfl (by simp only [zarg_r, zarg_i, zarg_l, zarg_0]; rfl) (fun X o f0 hin hw0 => ?_)
  have f := f0.e
  have hin : (Xt X).name = "guessFor" := hin
  refine (?_ : zQ (EH h) G X 0 0 0 [some (zrf p), some (zrf a1), some (.int a2), none, none] []) h rfl hw0
  clear hw0
  generalize hR9 : ((h9, V) : (zH × Int32)) = R at hm
  have hj69 : ∀ (h : zH) (s0 : Int32) (cl sl : Nat), cl + (0) ≤ 1 → sl + (0) ≤ 4 → j_X1_guessFor_j69 h s0 = some R → zQ (EH h) G X cl sl 69 [none, none, none, none, none] [.int s0] := by
    intro h s0 cl sl hc hs hm
    unfold j_X1_guessFor_j69 at hm
    refine zh_reti o f dX1_guessFor_69 rfl (by omega) (by omega) ((so_e hm).trans hR9.symm)
  have hj114 : ∀ (h : zH) (s0 : Int32) (cl sl : Nat), cl + (0) ≤ 1 → sl + (0) ≤ 4 → j_X1_guessFor_j114 h s0 = some R → zQ (EH h) G X cl sl 114 [none, none, none, none, none] [.int s0] := by
    intro h s0 cl sl hc hs hm
    unfold j_X1_guessFor_j114 at hm
    refine zh_reti o f dX1_guessFor_114 rfl (by omega) (by omega) ((so_e hm).trans hR9.symm)
  unfold j_X1_guessFor at hm
  refine zQ.s (fun h => zs_iload_n (i := 2) o dX1_guessFor_0 rfl rfl) ?_
  refine zQ.s (fun h => zs_iconst (v := 1) o dX1_guessFor_1 (by decide)) ?_
  refine zQ.s (fun h => zs_iadd o dX1_guessFor_2) ?_
  obtain ⟨v1, e_v1, hm⟩ := lt_e hm
  refine zQ.nmi e_v1 ?_
  refine zQ.s (fun h => zs_istore_n (i := 3) o dX1_guessFor_3 rfl (by decide) (Or.inr rfl) (by simp only [List.set_cons_succ, List.set_cons_zero]; rfl)) ?_
  refine zQ.s (fun h => zs_aload_n (i := 1) o dX1_guessFor_4 rfl rfl) ?_
  obtain ⟨g2, hm⟩ := gd_e hm
  refine zh_getI o g2 fl_X1_247_4 rfl dX1_guessFor_5 ?_
  by_cases c12 : (hI h 4 0 a1) = (12 : Int32)
  · have hm := if_e1 hm c12
    refine zQ.s (fun h => zs_table (off := 40) (tgt := 48) o dX1_guessFor_8 rfl (by decide) (ts_at c12 (by decide)) (by decide)) ?_
    refine zQ.s (fun h => zs_aload_n (i := 0) o dX1_guessFor_48 rfl rfl) ?_
    obtain ⟨g3, hm⟩ := gd_e hm
    refine zh_getR o g3 fl_X1_89_1 rfl dX1_guessFor_49 ?_
    refine zQ.s (fun h => zs_iload_n (i := 2) o dX1_guessFor_52 rfl rfl) ?_
    refine zQ.s (fun h => zs_bipush (v := 16) o dX1_guessFor_53 (by decide)) ?_
    refine zQ.s (fun h => zs_irem o dX1_guessFor_55 (by decide)) ?_
    obtain ⟨g4, hm⟩ := gd_e hm
    obtain ⟨g5, hm⟩ := gd_e hm
    refine zh_iald o g4 g5 dX1_guessFor_56 ?_
    refine zQ.s (fun h => zs_iconst (v := 2) o dX1_guessFor_57 (by decide)) ?_
    refine zQ.b (fun h => zs_icmp_lt (tgt := 68) o dX1_guessFor_58 (by decide)) (fun c => ?_) (fun c => ?_)
    · have hm := if_e1 hm c
      refine zQ.s (fun h => zs_iload_n (i := 3) o dX1_guessFor_68 rfl rfl) ?_
      refine zQ.fg (zl_n (zl_n (zl_n (zl_n (zl_n zl_0))))) ?_
      exact hj69 _ _ _ _ (by omega) (by omega) hm
    · have hm := if_e2 hm c
      refine zQ.s (fun h => zs_aload_n (i := 1) o dX1_guessFor_61 rfl rfl) ?_
      obtain ⟨g6, hm⟩ := gd_e hm
      refine zh_getI o g6 fl_X1_316_4 rfl dX1_guessFor_62 ?_
      refine zQ.s (fun h => zs_goto (tgt := 69) o dX1_guessFor_65 (by decide)) ?_
      refine zQ.fg (zl_n (zl_n (zl_n (zl_n (zl_n zl_0))))) ?_
      exact hj69 _ _ _ _ (by omega) (by omega) hm
  have hm := if_e2 hm c12
  by_cases c13 : (hI h 4 0 a1) = (13 : Int32)
  · have hm := if_e1 hm c13
    refine zQ.s (fun h => zs_table (off := 40) (tgt := 48) o dX1_guessFor_8 rfl (by decide) (ts_at c13 (by decide)) (by decide)) ?_
    refine zQ.s (fun h => zs_aload_n (i := 0) o dX1_guessFor_48 rfl rfl) ?_
    obtain ⟨g7, hm⟩ := gd_e hm
    refine zh_getR o g7 fl_X1_89_1 rfl dX1_guessFor_49 ?_
    refine zQ.s (fun h => zs_iload_n (i := 2) o dX1_guessFor_52 rfl rfl) ?_
    refine zQ.s (fun h => zs_bipush (v := 16) o dX1_guessFor_53 (by decide)) ?_
    refine zQ.s (fun h => zs_irem o dX1_guessFor_55 (by decide)) ?_
    obtain ⟨g8, hm⟩ := gd_e hm
    obtain ⟨g9, hm⟩ := gd_e hm
    refine zh_iald o g8 g9 dX1_guessFor_56 ?_
    refine zQ.s (fun h => zs_iconst (v := 2) o dX1_guessFor_57 (by decide)) ?_
    refine zQ.b (fun h => zs_icmp_lt (tgt := 68) o dX1_guessFor_58 (by decide)) (fun c => ?_) (fun c => ?_)
    · have hm := if_e1 hm c
      refine zQ.s (fun h => zs_iload_n (i := 3) o dX1_guessFor_68 rfl rfl) ?_
      refine zQ.fg (zl_n (zl_n (zl_n (zl_n (zl_n zl_0))))) ?_
      exact hj69 _ _ _ _ (by omega) (by omega) hm
    · have hm := if_e2 hm c
      refine zQ.s (fun h => zs_aload_n (i := 1) o dX1_guessFor_61 rfl rfl) ?_
      obtain ⟨g10, hm⟩ := gd_e hm
      refine zh_getI o g10 fl_X1_316_4 rfl dX1_guessFor_62 ?_
      refine zQ.s (fun h => zs_goto (tgt := 69) o dX1_guessFor_65 (by decide)) ?_
      refine zQ.fg (zl_n (zl_n (zl_n (zl_n (zl_n zl_0))))) ?_
      exact hj69 _ _ _ _ (by omega) (by omega) hm
  have hm := if_e2 hm c13
  by_cases c14 : (hI h 4 0 a1) = (14 : Int32)
  · have hm := if_e1 hm c14
    refine zQ.s (fun h => zs_table (off := 62) (tgt := 70) o dX1_guessFor_8 rfl (by decide) (ts_at c14 (by decide)) (by decide)) ?_
    refine zQ.s (fun h => zs_aload_n (i := 1) o dX1_guessFor_70 rfl rfl) ?_
    obtain ⟨g11, hm⟩ := gd_e hm
    refine zh_getI o g11 fl_X1_316_4 rfl dX1_guessFor_71 ?_
    refine zh_reti o f dX1_guessFor_74 rfl (by omega) (by omega) ((so_e hm).trans hR9.symm)
  have hm := if_e2 hm c14
  by_cases c15 : (hI h 4 0 a1) = (15 : Int32)
  · have hm := if_e1 hm c15
    refine zQ.s (fun h => zs_table (off := 67) (tgt := 75) o dX1_guessFor_8 rfl (by decide) (ts_at c15 (by decide)) (by decide)) ?_
    refine zQ.s (fun h => zs_aload_n (i := 0) o dX1_guessFor_75 rfl rfl) ?_
    refine zQ.s (fun h => zs_iload_n (i := 3) o dX1_guessFor_76 rfl rfl) ?_
    obtain ⟨g12, hm⟩ := gd_e hm
    obtain ⟨y13, c_y13, hm⟩ := bd_e hm
    refine zh_Vv o g12 ml_X1_536 (J_X1_push G _ _ _ _  c_y13) dX1_guessFor_77 rfl rfl rfl rfl (by omega) (by omega) ?_
    refine zQ.s (fun h => zs_aload_n (i := 1) o dX1_guessFor_80 rfl rfl) ?_
    obtain ⟨g14, hm⟩ := gd_e hm
    refine zh_getI o g14 fl_X1_316_4 rfl dX1_guessFor_81 ?_
    refine zh_reti o f dX1_guessFor_84 rfl (by omega) (by omega) ((so_e hm).trans hR9.symm)
  have hm := if_e2 hm c15
  by_cases c16 : (hI h 4 0 a1) = (16 : Int32)
  · have hm := if_e1 hm c16
    refine zQ.s (fun h => zs_table (off := 77) (tgt := 85) o dX1_guessFor_8 rfl (by decide) (ts_at c16 (by decide)) (by decide)) ?_
    refine zQ.s (fun h => zs_aload_n (i := 0) o dX1_guessFor_85 rfl rfl) ?_
    refine zQ.s (fun h => zs_iload_n (i := 3) o dX1_guessFor_86 rfl rfl) ?_
    obtain ⟨g15, hm⟩ := gd_e hm
    obtain ⟨y16, c_y16, hm⟩ := bd_e hm
    refine zh_Vi o g15 ml_X1_539 (J_X1_pop G _ _ _ _ _  c_y16) dX1_guessFor_87 rfl rfl rfl rfl (by omega) (by omega) ?_
    refine zh_reti o f dX1_guessFor_90 rfl (by omega) (by omega) ((so_e hm).trans hR9.symm)
  have hm := if_e2 hm c16
  by_cases c17 : (hI h 4 0 a1) = (17 : Int32)
  · have hm := if_e1 hm c17
    refine zQ.s (fun h => zs_table (off := 83) (tgt := 91) o dX1_guessFor_8 rfl (by decide) (ts_at c17 (by decide)) (by decide)) ?_
    refine zQ.s (fun h => zs_aload_n (i := 0) o dX1_guessFor_91 rfl rfl) ?_
    obtain ⟨g17, hm⟩ := gd_e hm
    refine zh_getR o g17 fl_X1_92_1 rfl dX1_guessFor_92 ?_
    refine zQ.s (fun h => zs_iload_n (i := 2) o dX1_guessFor_95 rfl rfl) ?_
    refine zQ.s (fun h => zs_bipush (v := 8) o dX1_guessFor_96 (by decide)) ?_
    refine zQ.s (fun h => zs_irem o dX1_guessFor_98 (by decide)) ?_
    obtain ⟨g18, hm⟩ := gd_e hm
    obtain ⟨g19, hm⟩ := gd_e hm
    refine zh_iald o g18 g19 dX1_guessFor_99 ?_
    obtain ⟨v20, e_v20, hm⟩ := lt_e hm
    refine zQ.nmi e_v20 ?_
    refine zQ.s (fun h => zs_istore (i := 4) o dX1_guessFor_100 (by decide) (Or.inr rfl) (by simp only [List.set_cons_succ, List.set_cons_zero]; rfl)) ?_
    refine zQ.s (fun h => zs_iload (i := 4) o dX1_guessFor_102 rfl) ?_
    refine zQ.s (fun h => zs_iconst (v := -1) o dX1_guessFor_104 (by decide)) ?_
    refine zQ.b (fun h => zs_icmp_ne (tgt := 112) o dX1_guessFor_105 (by decide)) (fun c => ?_) (fun c => ?_)
    · have hm := if_e2 hm c
      refine zQ.s (fun h => zs_iload (i := 4) o dX1_guessFor_112 rfl) ?_
      refine zQ.fg (zl_n (zl_n (zl_n (zl_n (zl_n zl_0))))) ?_
      exact hj114 _ _ _ _ (by omega) (by omega) hm
    · have hm := if_e1 hm c
      refine zQ.s (fun h => zs_iload_n (i := 3) o dX1_guessFor_108 rfl rfl) ?_
      refine zQ.s (fun h => zs_goto (tgt := 114) o dX1_guessFor_109 (by decide)) ?_
      refine zQ.fg (zl_n (zl_n (zl_n (zl_n (zl_n zl_0))))) ?_
      exact hj114 _ _ _ _ (by omega) (by omega) hm
  have hm := if_e2 hm c17
  refine zQ.s (fun h => zs_table (off := 107) (tgt := 115) o dX1_guessFor_8 rfl (by decide) (tsw_c (ts_ne (v := 12) (by decide) c12) (tsw_c (ts_ne (v := 13) (by decide) c13) (tsw_c (ts_ne (v := 14) (by decide) c14) (tsw_c (ts_ne (v := 15) (by decide) c15) (tsw_c (ts_ne (v := 16) (by decide) c16) (tsw_c (ts_ne (v := 17) (by decide) c17) (tsw_z))))))) (by decide)) ?_
  refine zQ.s (fun h => zs_iload_n (i := 3) o dX1_guessFor_115 rfl rfl) ?_
  refine zh_reti o f dX1_guessFor_116 rfl (by omega) (by omega) ((so_e hm).trans hR9.symm)

def j_X1_fetchAll_j204 (k5 : zH → Nat → Int32 → Option zH) (h : zH) (x0 : Nat) (x1 : Int32) (s1 : Int32) (s0 : Nat) : Option zH :=
  gd (kd h s0 1) <|
  gd (wr h s0) <|
  lt (pI h 1 17 s0 s1) fun S3 =>
  k5 S3 x0 x1
def j_X1_fetchAll_j188 (k5 : zH → Nat → Int32 → Option zH) (h : zH) (x0 : Nat) (x5 : Nat) (x6 : Int32) (s0 : Int32) : Option zH :=
  if x6 = (0 : Int32) then
    gd (kd h x5 8) <|
    j_X1_fetchAll_j204 k5 h x0 s0 (hI h 8 6 x5) x0
  else
    j_X1_fetchAll_j204 k5 h x0 s0 (-1 : Int32) x0
def j_X1_fetchAll_j176 (k5 : zH → Nat → Int32 → Option zH) (h : zH) (x0 : Nat) (x1 : Int32) (x5 : Nat) (s0 : Int32) : Option zH :=
  if s0 = (0 : Int32) then
    j_X1_fetchAll_j188 k5 h x0 x5 s0 x1
  else
    j_X1_fetchAll_j188 k5 h x0 x5 s0 (0 : Int32)
def j_X1_fetchAll_j171 (k5 : zH → Nat → Int32 → Option zH) (h : zH) (x0 : Nat) (x1 : Int32) (x5 : Nat) : Option zH :=
  j_X1_fetchAll_j176 k5 h x0 x1 x5 (1 : Int32)
def j_X1_fetchAll_j152 (k5 : zH → Nat → Int32 → Option zH) (h : zH) (x0 : Nat) (x2 : Nat) (x5 : Nat) (s0 : Int32) : Option zH :=
  gd (kd h x2 4) <|
  if (hI h 4 0 x2) = (18 : Int32) then
    j_X1_fetchAll_j171 k5 h x0 s0 x5
  else
    gd (kd h x2 4) <|
    if (hI h 4 0 x2) = (21 : Int32) then
      j_X1_fetchAll_j171 k5 h x0 s0 x5
    else
      j_X1_fetchAll_j176 k5 h x0 s0 x5 (0 : Int32)
def j_X1_fetchAll_j210 (h : zH) : Option zH :=
  some h
def j_X1_fetchAll_b5 (k5 : zH → Nat → Int32 → Option zH) (h : zH) (x0 : Nat) (x1 : Int32) : Option zH :=
  if x1 ≤ (0 : Int32) then
    j_X1_fetchAll_j210 h
  else
    gd (kd h x0 1) <|
    gd (kd h (hR h 1 14 x0) 12) <|
    bd (j_J4_size h (hR h 1 14 x0)) fun y3 =>
    gd (kd y3.1 x0 1) <|
    if ((2 : Int32) * (hI y3.1 1 5 x0)) ≤ y3.2 then
      j_X1_fetchAll_j210 y3.1
    else
      gd (kd y3.1 x0 1) <|
      gd (kd y3.1 x0 1) <|
      gd (kd y3.1 (hR y3.1 1 0 x0) 10) <|
      bd (j_J2_size y3.1 (hR y3.1 1 0 x0)) fun y8 =>
      bd (j_X1_isBetween y8.1 (hI y3.1 1 17 x0) (0 : Int32) (y8.2 - (1 : Int32))) fun y9 =>
      if y9.2 = (0 : Int32) then
        j_X1_fetchAll_j210 y9.1
      else
        gd (kd y9.1 x0 1) <|
        gd (kd y9.1 x0 1) <|
        gd (kd y9.1 (hR y9.1 1 0 x0) 10) <|
        bd (j_J2_get y9.1 (hR y9.1 1 0 x0) (hI y9.1 1 17 x0)) fun y13 =>
        gd (kd y13.1 y13.2 4) <|
        gd (kd y13.1 x0 1) <|
        lt ((hL y13.1 1 18 x0) + (1 : Int64)) fun v16 =>
        gd (kd y13.1 x0 1) <|
        gd (wr y13.1 x0) <|
        lt (pL y13.1 1 18 x0 v16) fun S19 =>
        lt (zT S19 + 1) fun r20 =>
        lt (nw S19 8 1 0) fun S21 =>
        gd (kd S21 x0 1) <|
        gd (kd S21 x0 1) <|
        gd (kd S21 x0 1) <|
        gd (nzr r20) <|
        bd (j_X8_init S21 r20 y13.2 (hI S21 1 17 x0) (hI S21 1 26 x0) v16 (hR S21 1 19 x0)) fun y26 =>
        gd (kd y26 x0 1) <|
        gd (kd y26 x0 1) <|
        bd (j_X1_guessFor y26 x0 y13.2 (hI y26 1 17 x0)) fun y29 =>
        gd (kd y29.1 r20 8) <|
        gd (wr y29.1 r20) <|
        lt (pI y29.1 8 6 r20 y29.2) fun S32 =>
        gd (kd S32 x0 1) <|
        gd (kd S32 r20 8) <|
        gd (wr S32 r20) <|
        lt (pR S32 8 5 r20 (hR S32 1 19 x0)) fun S36 =>
        gd (kd S36 x0 1) <|
        gd (kd S36 (hR S36 1 14 x0) 12) <|
        bd (j_J4_addLast S36 (hR S36 1 14 x0) r20) fun y39 =>
        gd (kd y39 r20 8) <|
        gd (kd y39 x0 1) <|
        if (hI y39 8 6 r20) = ((hI y39 1 17 x0) + (1 : Int32)) then
          j_X1_fetchAll_j152 k5 y39 x0 y13.2 r20 (x1 - (1 : Int32))
        else
          j_X1_fetchAll_j152 k5 y39 x0 y13.2 r20 (0 : Int32)
def j_X1_fetchAll_l5 : Nat → zH → Nat → Int32 → Option zH
  | 0 => fun _ _ _ => none
  | n + 1 => j_X1_fetchAll_b5 (j_X1_fetchAll_l5 n)
def j_X1_fetchAll (h : zH) (p : Nat) : Option zH :=
  gd (kd h p 1) <|
  lt (hI h 1 5 p) fun v2 =>
  j_X1_fetchAll_l5 5 h p v2

set_option maxHeartbeats 40000000 in
theorem J_X1_fetchAll (G : zG) (h : zH) (p : Nat) (h9 : zH) (hm : j_X1_fetchAll h p = some h9) : zJv G yX1_fetchAll cX1_fetchAll 7 none 3 10 135 [zrf p] h h9 := by
  refine zCo.st [some (zrf p), none, none, none, none, none, none] rfl rfl (by simp only [zarg_r, zarg_i, zarg_l, zarg_0]; rfl) (fun X o f0 hin hw0 => ?_)
  have f := f0.e
  have hin : (Xt X).name = "fetchAll" := hin
  refine (?_ : zQ (EH h) G X 0 0 0 [some (zrf p), none, none, none, none, none, none] []) h rfl hw0
  clear hw0
  generalize hR9 : (h9 : zH) = R at hm
  have hj210 : ∀ (h : zH) (cl sl : Nat), cl + (0) ≤ 10 → sl + (0) ≤ 135 → j_X1_fetchAll_j210 h = some R → zQ (EH h) G X cl sl 210 [none, none, none, none, none, none, none] [] := by
    intro h cl sl hc hs hm
    unfold j_X1_fetchAll_j210 at hm
    refine zh_retv o f dX1_fetchAll_210 (by omega) (by omega) ((so_e hm).trans hR9.symm)
  have hl5 : ∀ (n5 : Nat), n5 ≤ 5 → ∀ (h : zH) (x0 : Nat) (x1 : Int32) (cl sl : Nat), cl + (n5 * 2 + 0) ≤ 10 → sl + (n5 * 27 + 0) ≤ 135 → j_X1_fetchAll_l5 n5 h x0 x1 = some R → zQ (EH h) G X cl sl 5 [some (zrf x0), some (.int x1), none, none, none, none, none] [] := by
    intro n5
    induction n5 with
    | zero => intro _ h x0 x1 cl sl _ _ hm; exact no_e hm
    | succ n5 ih =>
      intro hf5
      have ih5 := ih (by omega)
      have hj204 : ∀ (h : zH) (x0 : Nat) (x1 : Int32) (s1 : Int32) (s0 : Nat) (cl sl : Nat), cl + (0 + (n5 * 2 + 0)) ≤ 10 → sl + (0 + (n5 * 27 + 0)) ≤ 135 → j_X1_fetchAll_j204 (j_X1_fetchAll_l5 n5) h x0 x1 s1 s0 = some R → zQ (EH h) G X cl sl 204 [some (zrf x0), some (.int x1), none, none, none, none, none] [.int s1, zrf s0] := by
        intro h x0 x1 s1 s0 cl sl hc hs hm
        unfold j_X1_fetchAll_j204 at hm
        obtain ⟨g1, hm⟩ := gd_e hm
        obtain ⟨g2, hm⟩ := gd_e hm
        obtain ⟨S3, e_S3, hm⟩ := lt_e hm
        refine zh_putI o g1 g2 fl_X1_294_1 rfl rfl ⟨rfl, rfl⟩ dX1_fetchAll_204 e_S3 ?_
        refine zQ.s (fun h => zs_goto (tgt := 5) o dX1_fetchAll_207 (by decide)) ?_
        exact ih5 _ _ _ _ _ (by omega) (by omega) hm
      have hj188 : ∀ (h : zH) (x0 : Nat) (x5 : Nat) (x6 : Int32) (s0 : Int32) (cl sl : Nat), cl + (0 + (n5 * 2 + 0)) ≤ 10 → sl + (0 + (n5 * 27 + 0)) ≤ 135 → j_X1_fetchAll_j188 (j_X1_fetchAll_l5 n5) h x0 x5 x6 s0 = some R → zQ (EH h) G X cl sl 188 [some (zrf x0), none, none, none, none, some (zrf x5), some (.int x6)] [.int s0] := by
        intro h x0 x5 x6 s0 cl sl hc hs hm
        unfold j_X1_fetchAll_j188 at hm
        refine zQ.s (fun h => zs_istore_n (i := 1) o dX1_fetchAll_188 rfl (by decide) (Or.inr (zc2_ref rfl)) (by simp only [List.set_cons_succ, List.set_cons_zero]; rfl)) ?_
        refine zQ.s (fun h => zs_aload_n (i := 0) o dX1_fetchAll_189 rfl rfl) ?_
        refine zQ.s (fun h => zs_iload (i := 6) o dX1_fetchAll_190 rfl) ?_
        refine zQ.b (fun h => zs_if_eq (tgt := 199) o dX1_fetchAll_192 (by decide)) (fun c => ?_) (fun c => ?_)
        · have hm := if_e1 hm c
          refine zQ.s (fun h => zs_aload (i := 5) o dX1_fetchAll_199 rfl) ?_
          obtain ⟨g1, hm⟩ := gd_e hm
          refine zh_getI o g1 fl_X1_319_8 rfl dX1_fetchAll_201 ?_
          refine zQ.fg (zl_s (zl_s (zl_n (zl_n (zl_n (zl_n (zl_n zl_0))))))) ?_
          exact hj204 _ _ _ _ _ _ _ (by omega) (by omega) hm
        · have hm := if_e2 hm c
          refine zQ.s (fun h => zs_iconst (v := -1) o dX1_fetchAll_195 (by decide)) ?_
          refine zQ.s (fun h => zs_goto (tgt := 204) o dX1_fetchAll_196 (by decide)) ?_
          refine zQ.fg (zl_s (zl_s (zl_n (zl_n (zl_n (zl_n (zl_n zl_0))))))) ?_
          exact hj204 _ _ _ _ _ _ _ (by omega) (by omega) hm
      have hj176 : ∀ (h : zH) (x0 : Nat) (x1 : Int32) (x5 : Nat) (s0 : Int32) (cl sl : Nat), cl + (0 + (n5 * 2 + 0)) ≤ 10 → sl + (0 + (n5 * 27 + 0)) ≤ 135 → j_X1_fetchAll_j176 (j_X1_fetchAll_l5 n5) h x0 x1 x5 s0 = some R → zQ (EH h) G X cl sl 176 [some (zrf x0), some (.int x1), none, none, none, some (zrf x5), none] [.int s0] := by
        intro h x0 x1 x5 s0 cl sl hc hs hm
        unfold j_X1_fetchAll_j176 at hm
        refine zQ.s (fun h => zs_istore (i := 6) o dX1_fetchAll_176 (by decide) (Or.inr (zc2_ref rfl)) (by simp only [List.set_cons_succ, List.set_cons_zero]; rfl)) ?_
        refine zQ.s (fun h => zs_iload (i := 6) o dX1_fetchAll_178 rfl) ?_
        refine zQ.b (fun h => zs_if_eq (tgt := 187) o dX1_fetchAll_180 (by decide)) (fun c => ?_) (fun c => ?_)
        · have hm := if_e1 hm c
          refine zQ.s (fun h => zs_iload_n (i := 1) o dX1_fetchAll_187 rfl rfl) ?_
          refine zQ.fg (zl_s (zl_n (zl_n (zl_n (zl_n (zl_s (zl_s zl_0))))))) ?_
          exact hj188 _ _ _ _ _ _ _ (by omega) (by omega) hm
        · have hm := if_e2 hm c
          refine zQ.s (fun h => zs_iconst (v := 0) o dX1_fetchAll_183 (by decide)) ?_
          refine zQ.s (fun h => zs_goto (tgt := 188) o dX1_fetchAll_184 (by decide)) ?_
          refine zQ.fg (zl_s (zl_n (zl_n (zl_n (zl_n (zl_s (zl_s zl_0))))))) ?_
          exact hj188 _ _ _ _ _ _ _ (by omega) (by omega) hm
      have hj171 : ∀ (h : zH) (x0 : Nat) (x1 : Int32) (x5 : Nat) (cl sl : Nat), cl + (0 + (n5 * 2 + 0)) ≤ 10 → sl + (0 + (n5 * 27 + 0)) ≤ 135 → j_X1_fetchAll_j171 (j_X1_fetchAll_l5 n5) h x0 x1 x5 = some R → zQ (EH h) G X cl sl 171 [some (zrf x0), some (.int x1), none, none, none, some (zrf x5), none] [] := by
        intro h x0 x1 x5 cl sl hc hs hm
        unfold j_X1_fetchAll_j171 at hm
        refine zQ.s (fun h => zs_iconst (v := 1) o dX1_fetchAll_171 (by decide)) ?_
        refine zQ.s (fun h => zs_goto (tgt := 176) o dX1_fetchAll_172 (by decide)) ?_
        exact hj176 _ _ _ _ _ _ _ (by omega) (by omega) hm
      have hj152 : ∀ (h : zH) (x0 : Nat) (x2 : Nat) (x5 : Nat) (s0 : Int32) (cl sl : Nat), cl + (0 + (n5 * 2 + 0)) ≤ 10 → sl + (0 + (n5 * 27 + 0)) ≤ 135 → j_X1_fetchAll_j152 (j_X1_fetchAll_l5 n5) h x0 x2 x5 s0 = some R → zQ (EH h) G X cl sl 152 [some (zrf x0), none, some (zrf x2), none, none, some (zrf x5), none] [.int s0] := by
        intro h x0 x2 x5 s0 cl sl hc hs hm
        unfold j_X1_fetchAll_j152 at hm
        refine zQ.s (fun h => zs_istore_n (i := 1) o dX1_fetchAll_152 rfl (by decide) (Or.inr (zc2_ref rfl)) (by simp only [List.set_cons_succ, List.set_cons_zero]; rfl)) ?_
        refine zQ.s (fun h => zs_aload_n (i := 2) o dX1_fetchAll_153 rfl rfl) ?_
        obtain ⟨g1, hm⟩ := gd_e hm
        refine zh_getI o g1 fl_X1_247_4 rfl dX1_fetchAll_154 ?_
        refine zQ.s (fun h => zs_bipush (v := 18) o dX1_fetchAll_157 (by decide)) ?_
        refine zQ.b (fun h => zs_icmp_eq (tgt := 171) o dX1_fetchAll_159 (by decide)) (fun c => ?_) (fun c => ?_)
        · have hm := if_e1 hm c
          refine zQ.fg (zl_s (zl_s (zl_n (zl_n (zl_n (zl_s (zl_n zl_0))))))) ?_
          exact hj171 _ _ _ _ _ _ (by omega) (by omega) hm
        · have hm := if_e2 hm c
          refine zQ.s (fun h => zs_aload_n (i := 2) o dX1_fetchAll_162 rfl rfl) ?_
          obtain ⟨g2, hm⟩ := gd_e hm
          refine zh_getI o g2 fl_X1_247_4 rfl dX1_fetchAll_163 ?_
          refine zQ.s (fun h => zs_bipush (v := 21) o dX1_fetchAll_166 (by decide)) ?_
          refine zQ.b (fun h => zs_icmp_ne (tgt := 175) o dX1_fetchAll_168 (by decide)) (fun c => ?_) (fun c => ?_)
          · have hm := if_e2 hm c
            refine zQ.s (fun h => zs_iconst (v := 0) o dX1_fetchAll_175 (by decide)) ?_
            refine zQ.fg (zl_s (zl_s (zl_n (zl_n (zl_n (zl_s (zl_n zl_0))))))) ?_
            exact hj176 _ _ _ _ _ _ _ (by omega) (by omega) hm
          · have hm := if_e1 hm c
            refine zQ.fg (zl_s (zl_s (zl_n (zl_n (zl_n (zl_s (zl_n zl_0))))))) ?_
            exact hj171 _ _ _ _ _ _ (by omega) (by omega) hm
      intro h x0 x1 cl sl hc hs hm
      have hm : j_X1_fetchAll_b5 (j_X1_fetchAll_l5 n5) h x0 x1 = some R := hm
      unfold j_X1_fetchAll_b5 at hm
      refine zQ.s (fun h => zs_iload_n (i := 1) o dX1_fetchAll_5 rfl rfl) ?_
      refine zQ.b (fun h => zs_if_le (tgt := 210) o dX1_fetchAll_6 (by decide)) (fun c => ?_) (fun c => ?_)
      · have hm := if_e1 hm c
        refine zQ.fg (zl_n (zl_n (zl_n (zl_n (zl_n (zl_n (zl_n zl_0))))))) ?_
        exact hj210 _ _ _ (by omega) (by omega) hm
      · have hm := if_e2 hm c
        refine zQ.s (fun h => zs_aload_n (i := 0) o dX1_fetchAll_9 rfl rfl) ?_
        obtain ⟨g1, hm⟩ := gd_e hm
        refine zh_getR o g1 fl_X1_73_1 rfl dX1_fetchAll_10 ?_
        obtain ⟨g2, hm⟩ := gd_e hm
        obtain ⟨y3, c_y3, hm⟩ := bd_e hm
        refine zh_Vi o g2 ml_X1_542 (J_J4_size G _ _ _ _  c_y3) dX1_fetchAll_13 rfl rfl rfl rfl (by omega) (by omega) ?_
        refine zQ.s (fun h => zs_iconst (v := 2) o dX1_fetchAll_16 (by decide)) ?_
        refine zQ.s (fun h => zs_aload_n (i := 0) o dX1_fetchAll_17 rfl rfl) ?_
        obtain ⟨g4, hm⟩ := gd_e hm
        refine zh_getI o g4 fl_X1_37_1 rfl dX1_fetchAll_18 ?_
        refine zQ.s (fun h => zs_imul o dX1_fetchAll_21) ?_
        refine zQ.b (fun h => zs_icmp_ge (tgt := 210) o dX1_fetchAll_22 (by decide)) (fun c => ?_) (fun c => ?_)
        · have hm := if_e1 hm c
          refine zQ.fg (zl_n (zl_n (zl_n (zl_n (zl_n (zl_n (zl_n zl_0))))))) ?_
          exact hj210 _ _ _ (by omega) (by omega) hm
        · have hm := if_e2 hm c
          refine zQ.s (fun h => zs_aload_n (i := 0) o dX1_fetchAll_25 rfl rfl) ?_
          obtain ⟨g5, hm⟩ := gd_e hm
          refine zh_getI o g5 fl_X1_294_1 rfl dX1_fetchAll_26 ?_
          refine zQ.s (fun h => zs_iconst (v := 0) o dX1_fetchAll_29 (by decide)) ?_
          refine zQ.s (fun h => zs_aload_n (i := 0) o dX1_fetchAll_30 rfl rfl) ?_
          obtain ⟨g6, hm⟩ := gd_e hm
          refine zh_getR o g6 fl_X1_16_1 rfl dX1_fetchAll_31 ?_
          obtain ⟨g7, hm⟩ := gd_e hm
          obtain ⟨y8, c_y8, hm⟩ := bd_e hm
          refine zh_Fi o g7 ml_X1_543_10 (J_J2_size G _ _ _ _  c_y8) dX1_fetchAll_34 rfl rfl rfl rfl (by omega) (by omega) ?_
          refine zQ.s (fun h => zs_iconst (v := 1) o dX1_fetchAll_39 (by decide)) ?_
          refine zQ.s (fun h => zs_isub o dX1_fetchAll_40) ?_
          obtain ⟨y9, c_y9, hm⟩ := bd_e hm
          refine zh_Si o ml_X1_3 (J_X1_isBetween G _ _ _ _ _ _  c_y9) dX1_fetchAll_41 rfl rfl rfl rfl (by omega) (by omega) ?_
          refine zQ.b (fun h => zs_if_eq (tgt := 210) o dX1_fetchAll_44 (by decide)) (fun c => ?_) (fun c => ?_)
          · have hm := if_e1 hm c
            refine zQ.fg (zl_n (zl_n (zl_n (zl_n (zl_n (zl_n (zl_n zl_0))))))) ?_
            exact hj210 _ _ _ (by omega) (by omega) hm
          · have hm := if_e2 hm c
            refine zQ.s (fun h => zs_aload_n (i := 0) o dX1_fetchAll_47 rfl rfl) ?_
            obtain ⟨g10, hm⟩ := gd_e hm
            refine zh_getR o g10 fl_X1_16_1 rfl dX1_fetchAll_48 ?_
            refine zQ.s (fun h => zs_aload_n (i := 0) o dX1_fetchAll_51 rfl rfl) ?_
            obtain ⟨g11, hm⟩ := gd_e hm
            refine zh_getI o g11 fl_X1_294_1 rfl dX1_fetchAll_52 ?_
            obtain ⟨g12, hm⟩ := gd_e hm
            obtain ⟨y13, c_y13, hm⟩ := bd_e hm
            refine zh_Fr o g12 ml_X1_544_10 (J_J2_get G _ _ _ _ _  c_y13) dX1_fetchAll_55 rfl rfl rfl rfl (by omega) (by omega) ?_
            obtain ⟨g14, hm⟩ := gd_e hm
            refine zh_cast (c := 4) o q1502 (by decide) (by decide) g14 dX1_fetchAll_60 ?_
            refine zQ.s (fun h => zs_astore_n (i := 2) o dX1_fetchAll_63 rfl (by decide) (Or.inr rfl) (by simp only [List.set_cons_succ, List.set_cons_zero]; rfl)) ?_
            refine zQ.s (fun h => zs_aload_n (i := 0) o dX1_fetchAll_64 rfl rfl) ?_
            refine zQ.s (fun h => zs_aload_n (i := 0) o dX1_fetchAll_65 rfl rfl) ?_
            obtain ⟨g15, hm⟩ := gd_e hm
            refine zh_getL o g15 fl_X1_547_1 rfl dX1_fetchAll_66 ?_
            refine zQ.s (fun h => zs_lconst (v := 1) o dX1_fetchAll_69 (by decide)) ?_
            refine zQ.s (fun h => zs_ladd o dX1_fetchAll_70) ?_
            obtain ⟨v16, e_v16, hm⟩ := lt_e hm
            refine zQ.nml e_v16 ?_
            refine zQ.s (fun h => zs_dup2_x1_2 o dX1_fetchAll_71 rfl (by first | rfl | exact zrf_cat _)) ?_
            obtain ⟨g17, hm⟩ := gd_e hm
            obtain ⟨g18, hm⟩ := gd_e hm
            obtain ⟨S19, e_S19, hm⟩ := lt_e hm
            refine zh_putL o g17 g18 fl_X1_547_1 rfl rfl dX1_fetchAll_72 e_S19 ?_
            refine zQ.s (fun h => zs_lstore_n (i := 3) o dX1_fetchAll_75 rfl (by decide) (Or.inr (zc2_ref rfl)) (by simp only [List.set_cons_succ, List.set_cons_zero]; rfl)) ?_
            obtain ⟨r20, e_r20, hm⟩ := lt_e hm
            obtain ⟨S21, e_S21, hm⟩ := lt_e hm
            refine zh_new (N := 23) o nl_X1_188 rfl dX1_fetchAll_76 (by omega) (by omega) e_S21 ?_
            refine zQ.nmr e_r20 ?_
            refine zQ.s (fun h => zs_dup o dX1_fetchAll_79 (by first | rfl | exact zrf_cat _)) ?_
            refine zQ.s (fun h => zs_aload_n (i := 2) o dX1_fetchAll_80 rfl rfl) ?_
            refine zQ.s (fun h => zs_aload_n (i := 0) o dX1_fetchAll_81 rfl rfl) ?_
            obtain ⟨g22, hm⟩ := gd_e hm
            refine zh_getI o g22 fl_X1_294_1 rfl dX1_fetchAll_82 ?_
            refine zQ.s (fun h => zs_aload_n (i := 0) o dX1_fetchAll_85 rfl rfl) ?_
            obtain ⟨g23, hm⟩ := gd_e hm
            refine zh_getI o g23 fl_X1_153_1 rfl dX1_fetchAll_86 ?_
            refine zQ.s (fun h => zs_lload_n (i := 3) o dX1_fetchAll_89 rfl rfl) ?_
            refine zQ.s (fun h => zs_aload_n (i := 0) o dX1_fetchAll_90 rfl rfl) ?_
            obtain ⟨g24, hm⟩ := gd_e hm
            refine zh_getR o g24 fl_X1_86_1 rfl dX1_fetchAll_91 ?_
            obtain ⟨g25, hm⟩ := gd_e hm
            obtain ⟨y26, c_y26, hm⟩ := bd_e hm
            refine zh_Iv o g25 ml_X1_550 (J_X8_init G _ _ _ _ _ _ _ _  c_y26) dX1_fetchAll_94 rfl rfl rfl rfl (by omega) (by omega) ?_
            refine zQ.s (fun h => zs_astore (i := 5) o dX1_fetchAll_97 (by decide) (Or.inr rfl) (by simp only [List.set_cons_succ, List.set_cons_zero]; rfl)) ?_
            refine zQ.s (fun h => zs_aload (i := 5) o dX1_fetchAll_99 rfl) ?_
            refine zQ.s (fun h => zs_aload_n (i := 0) o dX1_fetchAll_101 rfl rfl) ?_
            refine zQ.s (fun h => zs_aload_n (i := 2) o dX1_fetchAll_102 rfl rfl) ?_
            refine zQ.s (fun h => zs_aload_n (i := 0) o dX1_fetchAll_103 rfl rfl) ?_
            obtain ⟨g27, hm⟩ := gd_e hm
            refine zh_getI o g27 fl_X1_294_1 rfl dX1_fetchAll_104 ?_
            obtain ⟨g28, hm⟩ := gd_e hm
            obtain ⟨y29, c_y29, hm⟩ := bd_e hm
            refine zh_Vi o g28 ml_X1_553 (J_X1_guessFor G _ _ _ _ _ _  c_y29) dX1_fetchAll_107 rfl rfl rfl rfl (by omega) (by omega) ?_
            obtain ⟨g30, hm⟩ := gd_e hm
            obtain ⟨g31, hm⟩ := gd_e hm
            obtain ⟨S32, e_S32, hm⟩ := lt_e hm
            refine zh_putI o g30 g31 fl_X1_319_8 rfl rfl ⟨rfl, rfl⟩ dX1_fetchAll_110 e_S32 ?_
            refine zQ.s (fun h => zs_aload (i := 5) o dX1_fetchAll_113 rfl) ?_
            refine zQ.s (fun h => zs_aload_n (i := 0) o dX1_fetchAll_115 rfl rfl) ?_
            obtain ⟨g33, hm⟩ := gd_e hm
            refine zh_getR o g33 fl_X1_86_1 rfl dX1_fetchAll_116 ?_
            obtain ⟨g34, hm⟩ := gd_e hm
            obtain ⟨g35, hm⟩ := gd_e hm
            obtain ⟨S36, e_S36, hm⟩ := lt_e hm
            refine zh_putR o g34 g35 fl_X1_325_8 rfl rfl dX1_fetchAll_119 e_S36 ?_
            refine zQ.s (fun h => zs_aload_n (i := 0) o dX1_fetchAll_122 rfl rfl) ?_
            obtain ⟨g37, hm⟩ := gd_e hm
            refine zh_getR o g37 fl_X1_73_1 rfl dX1_fetchAll_123 ?_
            refine zQ.s (fun h => zs_aload (i := 5) o dX1_fetchAll_126 rfl) ?_
            obtain ⟨g38, hm⟩ := gd_e hm
            obtain ⟨y39, c_y39, hm⟩ := bd_e hm
            refine zh_Vv o g38 ml_X1_137 (J_J4_addLast G _ _ _ _  c_y39) dX1_fetchAll_128 rfl rfl rfl rfl (by omega) (by omega) ?_
            refine zQ.s (fun h => zs_aload (i := 5) o dX1_fetchAll_131 rfl) ?_
            obtain ⟨g40, hm⟩ := gd_e hm
            refine zh_getI o g40 fl_X1_319_8 rfl dX1_fetchAll_133 ?_
            refine zQ.s (fun h => zs_aload_n (i := 0) o dX1_fetchAll_136 rfl rfl) ?_
            obtain ⟨g41, hm⟩ := gd_e hm
            refine zh_getI o g41 fl_X1_294_1 rfl dX1_fetchAll_137 ?_
            refine zQ.s (fun h => zs_iconst (v := 1) o dX1_fetchAll_140 (by decide)) ?_
            refine zQ.s (fun h => zs_iadd o dX1_fetchAll_141) ?_
            refine zQ.b (fun h => zs_icmp_ne (tgt := 151) o dX1_fetchAll_142 (by decide)) (fun c => ?_) (fun c => ?_)
            · have hm := if_e2 hm c
              refine zQ.s (fun h => zs_iconst (v := 0) o dX1_fetchAll_151 (by decide)) ?_
              refine zQ.fg (zl_s (zl_n (zl_s (zl_n (zl_n (zl_s (zl_n zl_0))))))) ?_
              exact hj152 _ _ _ _ _ _ _ (by omega) (by omega) hm
            · have hm := if_e1 hm c
              refine zQ.s (fun h => zs_iload_n (i := 1) o dX1_fetchAll_145 rfl rfl) ?_
              refine zQ.s (fun h => zs_iconst (v := 1) o dX1_fetchAll_146 (by decide)) ?_
              refine zQ.s (fun h => zs_isub o dX1_fetchAll_147) ?_
              refine zQ.s (fun h => zs_goto (tgt := 152) o dX1_fetchAll_148 (by decide)) ?_
              refine zQ.fg (zl_s (zl_n (zl_s (zl_n (zl_n (zl_s (zl_n zl_0))))))) ?_
              exact hj152 _ _ _ _ _ _ _ (by omega) (by omega) hm
  unfold j_X1_fetchAll at hm
  refine zQ.s (fun h => zs_aload_n (i := 0) o dX1_fetchAll_0 rfl rfl) ?_
  obtain ⟨g1, hm⟩ := gd_e hm
  refine zh_getI o g1 fl_X1_37_1 rfl dX1_fetchAll_1 ?_
  obtain ⟨v2, e_v2, hm⟩ := lt_e hm
  refine zQ.nmi e_v2 ?_
  refine zQ.s (fun h => zs_istore_n (i := 1) o dX1_fetchAll_4 rfl (by decide) (Or.inr (zc2_ref rfl)) (by simp only [List.set_cons_succ, List.set_cons_zero]; rfl)) ?_
  exact hl5 5 (Nat.le_refl _) _ _ _ _ _ (by omega) (by omega) hm

def j_X1_pass (h : zH) (p : Nat) (e0 : Nat) (ic : Nat) (sp : Nat) (cm : Nat) (B : Nat) : Option zH :=
  gd (kd h p 1) <|
  gd (kd h p 1) <|
  gd (wr h p) <|
  lt (pI h 1 26 p ((hI h 1 26 p) + (1 : Int32))) fun S4 =>
  gd (kd S4 p 1) <|
  bd (j_X1_answer S4 p) fun y6 =>
  gd (kd y6 p 1) <|
  bd (j_X1_endAll y6 p e0 ic cm) fun y8 =>
  gd (kd y8 p 1) <|
  bd (j_X1_retireAll y8 p e0 ic sp cm B) fun y10 =>
  gd (kd y10 p 1) <|
  bd (j_X1_beginAll y10 p) fun y12 =>
  gd (kd y12 p 1) <|
  bd (j_X1_renameAll y12 p) fun y14 =>
  gd (kd y14 p 1) <|
  bd (j_X1_fetchAll y14 p) fun y16 =>
  some y16

set_option maxHeartbeats 40000000 in
theorem J_X1_pass (G : zG) (h : zH) (p : Nat) (e0 : Nat) (ic : Nat) (sp : Nat) (cm : Nat) (B : Nat) (h9 : zH) (z_e0 : ("java/util/ArrayList", "DEFAULTCAPACITY_EMPTY_ELEMENTDATA", "[Ljava/lang/Object;", zrf e0) ∈ zGz G) (z_ih : ("java/lang/Integer$IntegerCache", "high", "I", .int 127) ∈ zGz G) (z_ic : ("java/lang/Integer$IntegerCache", "cache", "[Ljava/lang/Integer;", zrf ic) ∈ zGz G) (z_ad : ("java/util/BitSet", "$assertionsDisabled", "Z", .int 1) ∈ zGz G) (z_cs : ("java/lang/String", "COMPACT_STRINGS", "Z", .int 1) ∈ zGz G) (z_sp : sp = zGs G + 1) (z_cm : cm = zGm G + 1) (hm : j_X1_pass h p e0 ic sp cm B = some h9) : zJv G yX1_pass cX1_pass 1 none 10 605 (1765 + 5 * B) [zrf p] h h9 := by
  refine zCo.st [some (zrf p)] rfl rfl (by simp only [zarg_r, zarg_i, zarg_l, zarg_0]; rfl) (fun X o f0 hin hw0 => ?_)
  have f := f0.e
  have hin : (Xt X).name = "pass" := hin
  refine (?_ : zQ (EH h) G X 0 0 0 [some (zrf p)] []) h rfl hw0
  clear hw0
  generalize hR9 : (h9 : zH) = R at hm
  unfold j_X1_pass at hm
  refine zQ.s (fun h => zs_aload_n (i := 0) o dX1_pass_0 rfl rfl) ?_
  refine zQ.s (fun h => zs_dup o dX1_pass_1 (by first | rfl | exact zrf_cat _)) ?_
  obtain ⟨g1, hm⟩ := gd_e hm
  refine zh_getI o g1 fl_X1_153_1 rfl dX1_pass_2 ?_
  refine zQ.s (fun h => zs_iconst (v := 1) o dX1_pass_5 (by decide)) ?_
  refine zQ.s (fun h => zs_iadd o dX1_pass_6) ?_
  obtain ⟨g2, hm⟩ := gd_e hm
  obtain ⟨g3, hm⟩ := gd_e hm
  obtain ⟨S4, e_S4, hm⟩ := lt_e hm
  refine zh_putI o g2 g3 fl_X1_153_1 rfl rfl ⟨rfl, rfl⟩ dX1_pass_7 e_S4 ?_
  refine zQ.s (fun h => zs_aload_n (i := 0) o dX1_pass_10 rfl rfl) ?_
  obtain ⟨g5, hm⟩ := gd_e hm
  obtain ⟨y6, c_y6, hm⟩ := bd_e hm
  refine zh_Vv o g5 ml_X1_557 (J_X1_answer G _ _ _  c_y6) dX1_pass_11 rfl rfl rfl rfl (by omega) (by omega) ?_
  refine zQ.s (fun h => zs_aload_n (i := 0) o dX1_pass_14 rfl rfl) ?_
  obtain ⟨g7, hm⟩ := gd_e hm
  obtain ⟨y8, c_y8, hm⟩ := bd_e hm
  refine zh_Vv o g7 ml_X1_560 (J_X1_endAll G _ _ _ _ _ _ z_e0 z_ih z_ic z_ad z_cm c_y8) dX1_pass_15 rfl rfl rfl rfl (by omega) (by omega) ?_
  refine zQ.s (fun h => zs_aload_n (i := 0) o dX1_pass_18 rfl rfl) ?_
  obtain ⟨g9, hm⟩ := gd_e hm
  obtain ⟨y10, c_y10, hm⟩ := bd_e hm
  refine zh_Vv o g9 ml_X1_563 (J_X1_retireAll G _ _ _ _ _ _ _ _ z_e0 z_ih z_ic z_ad z_cs z_sp z_cm c_y10) dX1_pass_19 rfl rfl rfl rfl (by omega) (by omega) ?_
  refine zQ.s (fun h => zs_aload_n (i := 0) o dX1_pass_22 rfl rfl) ?_
  obtain ⟨g11, hm⟩ := gd_e hm
  obtain ⟨y12, c_y12, hm⟩ := bd_e hm
  refine zh_Vv o g11 ml_X1_566 (J_X1_beginAll G _ _ _ z_ad c_y12) dX1_pass_23 rfl rfl rfl rfl (by omega) (by omega) ?_
  refine zQ.s (fun h => zs_aload_n (i := 0) o dX1_pass_26 rfl rfl) ?_
  obtain ⟨g13, hm⟩ := gd_e hm
  obtain ⟨y14, c_y14, hm⟩ := bd_e hm
  refine zh_Vv o g13 ml_X1_569 (J_X1_renameAll G _ _ _ z_ad c_y14) dX1_pass_27 rfl rfl rfl rfl (by omega) (by omega) ?_
  refine zQ.s (fun h => zs_aload_n (i := 0) o dX1_pass_30 rfl rfl) ?_
  obtain ⟨g15, hm⟩ := gd_e hm
  obtain ⟨y16, c_y16, hm⟩ := bd_e hm
  refine zh_Vv o g15 ml_X1_572 (J_X1_fetchAll G _ _ _  c_y16) dX1_pass_31 rfl rfl rfl rfl (by omega) (by omega) ?_
  refine zh_retv o f dX1_pass_34 (by omega) (by omega) ((so_e hm).trans hR9.symm)

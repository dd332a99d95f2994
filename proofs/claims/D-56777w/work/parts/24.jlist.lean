/-! LinkedList, decompiled over the heap: printed by mk24.py -/
set_option maxRecDepth 100000
def j_J0_init (h : zH) (p : Nat) : Option zH :=
  gd (nzr p) <|
  some h

set_option maxHeartbeats 40000000 in
theorem J_J0_init (G : zG) (h : zH) (p : Nat) (h9 : zH) (hm : j_J0_init h p = some h9) : zJv G yJ0_init cJ0_init 1 none 1 0 0 [zrf p] h h9 := by
  refine zCo.st [some (zrf p)] rfl rfl (by simp only [zarg_r, zarg_i, zarg_l, zarg_0]; rfl) (fun X o f0 hin hw0 => ?_)
  have f := f0.e
  have hin : (Xt X).name = "<init>" := hin
  refine (?_ : zQ (EH h) G X 0 0 0 [some (zrf p)] []) h rfl hw0
  clear hw0
  generalize hR9 : (h9 : zH) = R at hm
  unfold j_J0_init at hm
  refine zQ.s (fun h => zs_aload_n (i := 0) o dJ0_init_0 rfl rfl) ?_
  obtain ⟨g1, hm⟩ := gd_e hm
  refine zh_objInit o g1 q176 q163 q164 dJ0_init_1 rfl rfl ?_
  refine zh_retv o f dJ0_init_4 (by omega) (by omega) ((so_e hm).trans hR9.symm)

def j_J1_initL (h : zH) (p : Nat) : Option zH :=
  gd (nzr p) <|
  bd (j_J0_init h p) fun y2 =>
  gd (kd y2 p 13) <|
  gd (wr y2 p) <|
  lt (pI y2 13 0 p (0 : Int32)) fun S5 =>
  some S5

set_option maxHeartbeats 40000000 in
theorem J_J1_initL (G : zG) (h : zH) (p : Nat) (h9 : zH) (hm : j_J1_initL h p = some h9) : zJv G yJ1_init cJ1_init 1 none 2 0 0 [zrf p] h h9 := by
  refine zCo.st [some (zrf p)] rfl rfl (by simp only [zarg_r, zarg_i, zarg_l, zarg_0]; rfl) (fun X o f0 hin hw0 => ?_)
  have f := f0.e
  have hin : (Xt X).name = "<init>" := hin
  refine (?_ : zQ (EH h) G X 0 0 0 [some (zrf p)] []) h rfl hw0
  clear hw0
  generalize hR9 : (h9 : zH) = R at hm
  unfold j_J1_initL at hm
  refine zQ.s (fun h => zs_aload_n (i := 0) o dJ1_init_0 rfl rfl) ?_
  obtain ⟨g1, hm⟩ := gd_e hm
  obtain ⟨y2, c_y2, hm⟩ := bd_e hm
  refine zh_Iv o g1 ml_J1_1 (J_J0_init G _ _ _  c_y2) dJ1_init_1 rfl rfl rfl rfl (by omega) (by omega) ?_
  refine zQ.s (fun h => zs_aload_n (i := 0) o dJ1_init_4 rfl rfl) ?_
  refine zQ.s (fun h => zs_iconst (v := 0) o dJ1_init_5 (by decide)) ?_
  obtain ⟨g3, hm⟩ := gd_e hm
  obtain ⟨g4, hm⟩ := gd_e hm
  obtain ⟨S5, e_S5, hm⟩ := lt_e hm
  refine zh_putI o g3 g4 fl_J1_7_13 rfl rfl ⟨rfl, rfl⟩ dJ1_init_6 e_S5 ?_
  refine zh_retv o f dJ1_init_9 (by omega) (by omega) ((so_e hm).trans hR9.symm)

def j_J5_init (h : zH) (p : Nat) : Option zH :=
  gd (nzr p) <|
  bd (j_J1_initL h p) fun y2 =>
  some y2

set_option maxHeartbeats 40000000 in
theorem J_J5_init (G : zG) (h : zH) (p : Nat) (h9 : zH) (hm : j_J5_init h p = some h9) : zJv G yJ5_init cJ5_init 1 none 3 0 0 [zrf p] h h9 := by
  refine zCo.st [some (zrf p)] rfl rfl (by simp only [zarg_r, zarg_i, zarg_l, zarg_0]; rfl) (fun X o f0 hin hw0 => ?_)
  have f := f0.e
  have hin : (Xt X).name = "<init>" := hin
  refine (?_ : zQ (EH h) G X 0 0 0 [some (zrf p)] []) h rfl hw0
  clear hw0
  generalize hR9 : (h9 : zH) = R at hm
  unfold j_J5_init at hm
  refine zQ.s (fun h => zs_aload_n (i := 0) o dJ5_init_0 rfl rfl) ?_
  obtain ⟨g1, hm⟩ := gd_e hm
  obtain ⟨y2, c_y2, hm⟩ := bd_e hm
  refine zh_Iv o g1 ml_J5_1 (J_J1_initL G _ _ _  c_y2) dJ5_init_1 rfl rfl rfl rfl (by omega) (by omega) ?_
  refine zh_retv o f dJ5_init_4 (by omega) (by omega) ((so_e hm).trans hR9.symm)

def j_J6_init (h : zH) (p : Nat) : Option zH :=
  gd (nzr p) <|
  bd (j_J5_init h p) fun y2 =>
  gd (kd y2 p 13) <|
  gd (wr y2 p) <|
  lt (pI y2 13 1 p (0 : Int32)) fun S5 =>
  some S5

set_option maxHeartbeats 40000000 in
theorem J_J6_init (G : zG) (h : zH) (p : Nat) (h9 : zH) (hm : j_J6_init h p = some h9) : zJv G yJ6_init cJ6_init 1 none 4 0 0 [zrf p] h h9 := by
  refine zCo.st [some (zrf p)] rfl rfl (by simp only [zarg_r, zarg_i, zarg_l, zarg_0]; rfl) (fun X o f0 hin hw0 => ?_)
  have f := f0.e
  have hin : (Xt X).name = "<init>" := hin
  refine (?_ : zQ (EH h) G X 0 0 0 [some (zrf p)] []) h rfl hw0
  clear hw0
  generalize hR9 : (h9 : zH) = R at hm
  unfold j_J6_init at hm
  refine zQ.s (fun h => zs_aload_n (i := 0) o dJ6_init_0 rfl rfl) ?_
  obtain ⟨g1, hm⟩ := gd_e hm
  obtain ⟨y2, c_y2, hm⟩ := bd_e hm
  refine zh_Iv o g1 ml_J6_1 (J_J5_init G _ _ _  c_y2) dJ6_init_1 rfl rfl rfl rfl (by omega) (by omega) ?_
  refine zQ.s (fun h => zs_aload_n (i := 0) o dJ6_init_4 rfl rfl) ?_
  refine zQ.s (fun h => zs_iconst (v := 0) o dJ6_init_5 (by decide)) ?_
  obtain ⟨g3, hm⟩ := gd_e hm
  obtain ⟨g4, hm⟩ := gd_e hm
  obtain ⟨S5, e_S5, hm⟩ := lt_e hm
  refine zh_putI o g3 g4 fl_J6_7_13 rfl rfl ⟨rfl, rfl⟩ dJ6_init_6 e_S5 ?_
  refine zh_retv o f dJ6_init_9 (by omega) (by omega) ((so_e hm).trans hR9.symm)

def j_J6_size (h : zH) (p : Nat) : Option (zH × Int32) :=
  gd (kd h p 13) <|
  some (h, hI h 13 1 p)

set_option maxHeartbeats 40000000 in
theorem J_J6_size (G : zG) (h : zH) (p : Nat) (V : Int32) (h9 : zH) (hm : j_J6_size h p = some (h9, V)) : zJi G yJ6_size cJ6_size 1 (some .int) 0 0 0 [zrf p] h V h9 := by
  refine zCo.st [some (zrf p)] rfl rfl (by simp only [zarg_r, zarg_i, zarg_l, zarg_0]; rfl) (fun X o f0 hin hw0 => ?_)
  have f := f0.e
  have hin : (Xt X).name = "size" := hin
  refine (?_ : zQ (EH h) G X 0 0 0 [some (zrf p)] []) h rfl hw0
  clear hw0
  generalize hR9 : ((h9, V) : (zH × Int32)) = R at hm
  unfold j_J6_size at hm
  refine zQ.s (fun h => zs_aload_n (i := 0) o dJ6_size_0 rfl rfl) ?_
  obtain ⟨g1, hm⟩ := gd_e hm
  refine zh_getI o g1 fl_J6_7_13 rfl dJ6_size_1 ?_
  refine zh_reti o f dJ6_size_4 rfl (by omega) (by omega) ((so_e hm).trans hR9.symm)

def j_J6_isPositionIndex_j17 (h : zH) (s0 : Int32) : Option (zH × Int32) :=
  gd (b01 s0) <|
  some (h, s0)
def j_J6_isPositionIndex_j16 (h : zH) : Option (zH × Int32) :=
  j_J6_isPositionIndex_j17 h (0 : Int32)
def j_J6_isPositionIndex (h : zH) (p : Nat) (a1 : Int32) : Option (zH × Int32) :=
  if a1 < (0 : Int32) then
    j_J6_isPositionIndex_j16 h
  else
    gd (kd h p 13) <|
    if (hI h 13 1 p) < a1 then
      j_J6_isPositionIndex_j16 h
    else
      j_J6_isPositionIndex_j17 h (1 : Int32)

set_option maxHeartbeats 40000000 in
theorem J_J6_isPositionIndex (G : zG) (h : zH) (p : Nat) (a1 : Int32) (V : Int32) (h9 : zH) (hm : j_J6_isPositionIndex h p a1 = some (h9, V)) : zJi G yJ6_isPositionIndex cJ6_isPositionIndex 2 (some .boolean) 0 0 0 [zrf p, .int a1] h V h9 := by
  refine zCo.st [some (zrf p), some (.int a1)] rfl rfl (by simp only [zarg_r, zarg_i, zarg_l, zarg_0]; rfl) (fun X o f0 hin hw0 => ?_)
  have f := f0.e
  have hin : (Xt X).name = "isPositionIndex" := hin
  refine (?_ : zQ (EH h) G X 0 0 0 [some (zrf p), some (.int a1)] []) h rfl hw0
  clear hw0
  generalize hR9 : ((h9, V) : (zH × Int32)) = R at hm
  have hj17 : ∀ (h : zH) (s0 : Int32) (cl sl : Nat), cl + (0) ≤ 0 → sl + (0) ≤ 0 → j_J6_isPositionIndex_j17 h s0 = some R → zQ (EH h) G X cl sl 17 [none, none] [.int s0] := by
    intro h s0 cl sl hc hs hm
    unfold j_J6_isPositionIndex_j17 at hm
    obtain ⟨g1, hm⟩ := gd_e hm
    refine zh_reti o f dJ6_isPositionIndex_17 (b01_e g1).1 (by omega) (by omega) ((so_e hm).trans hR9.symm)
  have hj16 : ∀ (h : zH) (cl sl : Nat), cl + (0) ≤ 0 → sl + (0) ≤ 0 → j_J6_isPositionIndex_j16 h = some R → zQ (EH h) G X cl sl 16 [none, none] [] := by
    intro h cl sl hc hs hm
    unfold j_J6_isPositionIndex_j16 at hm
    refine zQ.s (fun h => zs_iconst (v := 0) o dJ6_isPositionIndex_16 (by decide)) ?_
    exact hj17 _ _ _ _ (by omega) (by omega) hm
  unfold j_J6_isPositionIndex at hm
  refine zQ.s (fun h => zs_iload_n (i := 1) o dJ6_isPositionIndex_0 rfl rfl) ?_
  refine zQ.b (fun h => zs_if_lt (tgt := 16) o dJ6_isPositionIndex_1 (by decide)) (fun c => ?_) (fun c => ?_)
  · have hm := if_e1 hm c
    refine zQ.fg (zl_n (zl_n zl_0)) ?_
    exact hj16 _ _ _ (by omega) (by omega) hm
  · have hm := if_e2 hm c
    refine zQ.s (fun h => zs_iload_n (i := 1) o dJ6_isPositionIndex_4 rfl rfl) ?_
    refine zQ.s (fun h => zs_aload_n (i := 0) o dJ6_isPositionIndex_5 rfl rfl) ?_
    obtain ⟨g1, hm⟩ := gd_e hm
    refine zh_getI o g1 fl_J6_7_13 rfl dJ6_isPositionIndex_6 ?_
    refine zQ.b (fun h => zs_icmp_gt (tgt := 16) o dJ6_isPositionIndex_9 (by decide)) (fun c => ?_) (fun c => ?_)
    · have hm := if_e1 hm c
      refine zQ.fg (zl_n (zl_n zl_0)) ?_
      exact hj16 _ _ _ (by omega) (by omega) hm
    · have hm := if_e2 hm c
      refine zQ.s (fun h => zs_iconst (v := 1) o dJ6_isPositionIndex_12 (by decide)) ?_
      refine zQ.s (fun h => zs_goto (tgt := 17) o dJ6_isPositionIndex_13 (by decide)) ?_
      refine zQ.fg (zl_n (zl_n zl_0)) ?_
      exact hj17 _ _ _ _ (by omega) (by omega) hm

def j_J6_checkPositionIndex (h : zH) (p : Nat) (a1 : Int32) : Option zH :=
  gd (kd h p 13) <|
  bd (j_J6_isPositionIndex h p a1) fun y2 =>
  if y2.2 = (0 : Int32) then
    none
  else
    some y2.1

set_option maxHeartbeats 40000000 in
theorem J_J6_checkPositionIndex (G : zG) (h : zH) (p : Nat) (a1 : Int32) (h9 : zH) (hm : j_J6_checkPositionIndex h p a1 = some h9) : zJv G yJ6_checkPositionIndex cJ6_checkPositionIndex 2 none 1 0 0 [zrf p, .int a1] h h9 := by
  refine zCo.st [some (zrf p), some (.int a1)] rfl rfl (by simp only [zarg_r, zarg_i, zarg_l, zarg_0]; rfl) (fun X o f0 hin hw0 => ?_)
  have f := f0.e
  have hin : (Xt X).name = "checkPositionIndex" := hin
  refine (?_ : zQ (EH h) G X 0 0 0 [some (zrf p), some (.int a1)] []) h rfl hw0
  clear hw0
  generalize hR9 : (h9 : zH) = R at hm
  unfold j_J6_checkPositionIndex at hm
  refine zQ.s (fun h => zs_aload_n (i := 0) o dJ6_checkPositionIndex_0 rfl rfl) ?_
  refine zQ.s (fun h => zs_iload_n (i := 1) o dJ6_checkPositionIndex_1 rfl rfl) ?_
  obtain ⟨g1, hm⟩ := gd_e hm
  obtain ⟨y2, c_y2, hm⟩ := bd_e hm
  refine zh_Vi o g1 ml_J6_128 (J_J6_isPositionIndex G _ _ _ _ _  c_y2) dJ6_checkPositionIndex_2 rfl rfl rfl rfl (by omega) (by omega) ?_
  refine zQ.b (fun h => zs_if_ne (tgt := 21) o dJ6_checkPositionIndex_5 (by decide)) (fun c => ?_) (fun c => ?_)
  · have hm := if_e2 hm c
    refine zh_retv o f dJ6_checkPositionIndex_21 (by omega) (by omega) ((so_e hm).trans hR9.symm)
  · have hm := if_e1 hm c
    exact no_e hm

def j_J6_isElementIndex_j17 (h : zH) (s0 : Int32) : Option (zH × Int32) :=
  gd (b01 s0) <|
  some (h, s0)
def j_J6_isElementIndex_j16 (h : zH) : Option (zH × Int32) :=
  j_J6_isElementIndex_j17 h (0 : Int32)
def j_J6_isElementIndex (h : zH) (p : Nat) (a1 : Int32) : Option (zH × Int32) :=
  if a1 < (0 : Int32) then
    j_J6_isElementIndex_j16 h
  else
    gd (kd h p 13) <|
    if (hI h 13 1 p) ≤ a1 then
      j_J6_isElementIndex_j16 h
    else
      j_J6_isElementIndex_j17 h (1 : Int32)

set_option maxHeartbeats 40000000 in
theorem J_J6_isElementIndex (G : zG) (h : zH) (p : Nat) (a1 : Int32) (V : Int32) (h9 : zH) (hm : j_J6_isElementIndex h p a1 = some (h9, V)) : zJi G yJ6_isElementIndex cJ6_isElementIndex 2 (some .boolean) 0 0 0 [zrf p, .int a1] h V h9 := by
  refine zCo.st [some (zrf p), some (.int a1)] rfl rfl (by simp only [zarg_r, zarg_i, zarg_l, zarg_0]; rfl) (fun X o f0 hin hw0 => ?_)
  have f := f0.e
  have hin : (Xt X).name = "isElementIndex" := hin
  refine (?_ : zQ (EH h) G X 0 0 0 [some (zrf p), some (.int a1)] []) h rfl hw0
  clear hw0
  generalize hR9 : ((h9, V) : (zH × Int32)) = R at hm
  have hj17 : ∀ (h : zH) (s0 : Int32) (cl sl : Nat), cl + (0) ≤ 0 → sl + (0) ≤ 0 → j_J6_isElementIndex_j17 h s0 = some R → zQ (EH h) G X cl sl 17 [none, none] [.int s0] := by
    intro h s0 cl sl hc hs hm
    unfold j_J6_isElementIndex_j17 at hm
    obtain ⟨g1, hm⟩ := gd_e hm
    refine zh_reti o f dJ6_isElementIndex_17 (b01_e g1).1 (by omega) (by omega) ((so_e hm).trans hR9.symm)
  have hj16 : ∀ (h : zH) (cl sl : Nat), cl + (0) ≤ 0 → sl + (0) ≤ 0 → j_J6_isElementIndex_j16 h = some R → zQ (EH h) G X cl sl 16 [none, none] [] := by
    intro h cl sl hc hs hm
    unfold j_J6_isElementIndex_j16 at hm
    refine zQ.s (fun h => zs_iconst (v := 0) o dJ6_isElementIndex_16 (by decide)) ?_
    exact hj17 _ _ _ _ (by omega) (by omega) hm
  unfold j_J6_isElementIndex at hm
  refine zQ.s (fun h => zs_iload_n (i := 1) o dJ6_isElementIndex_0 rfl rfl) ?_
  refine zQ.b (fun h => zs_if_lt (tgt := 16) o dJ6_isElementIndex_1 (by decide)) (fun c => ?_) (fun c => ?_)
  · have hm := if_e1 hm c
    refine zQ.fg (zl_n (zl_n zl_0)) ?_
    exact hj16 _ _ _ (by omega) (by omega) hm
  · have hm := if_e2 hm c
    refine zQ.s (fun h => zs_iload_n (i := 1) o dJ6_isElementIndex_4 rfl rfl) ?_
    refine zQ.s (fun h => zs_aload_n (i := 0) o dJ6_isElementIndex_5 rfl rfl) ?_
    obtain ⟨g1, hm⟩ := gd_e hm
    refine zh_getI o g1 fl_J6_7_13 rfl dJ6_isElementIndex_6 ?_
    refine zQ.b (fun h => zs_icmp_ge (tgt := 16) o dJ6_isElementIndex_9 (by decide)) (fun c => ?_) (fun c => ?_)
    · have hm := if_e1 hm c
      refine zQ.fg (zl_n (zl_n zl_0)) ?_
      exact hj16 _ _ _ (by omega) (by omega) hm
    · have hm := if_e2 hm c
      refine zQ.s (fun h => zs_iconst (v := 1) o dJ6_isElementIndex_12 (by decide)) ?_
      refine zQ.s (fun h => zs_goto (tgt := 17) o dJ6_isElementIndex_13 (by decide)) ?_
      refine zQ.fg (zl_n (zl_n zl_0)) ?_
      exact hj17 _ _ _ _ (by omega) (by omega) hm

def j_J6_checkElementIndex (h : zH) (p : Nat) (a1 : Int32) : Option zH :=
  gd (kd h p 13) <|
  bd (j_J6_isElementIndex h p a1) fun y2 =>
  if y2.2 = (0 : Int32) then
    none
  else
    some y2.1

set_option maxHeartbeats 40000000 in
theorem J_J6_checkElementIndex (G : zG) (h : zH) (p : Nat) (a1 : Int32) (h9 : zH) (hm : j_J6_checkElementIndex h p a1 = some h9) : zJv G yJ6_checkElementIndex cJ6_checkElementIndex 2 none 1 0 0 [zrf p, .int a1] h h9 := by
  refine zCo.st [some (zrf p), some (.int a1)] rfl rfl (by simp only [zarg_r, zarg_i, zarg_l, zarg_0]; rfl) (fun X o f0 hin hw0 => ?_)
  have f := f0.e
  have hin : (Xt X).name = "checkElementIndex" := hin
  refine (?_ : zQ (EH h) G X 0 0 0 [some (zrf p), some (.int a1)] []) h rfl hw0
  clear hw0
  generalize hR9 : (h9 : zH) = R at hm
  unfold j_J6_checkElementIndex at hm
  refine zQ.s (fun h => zs_aload_n (i := 0) o dJ6_checkElementIndex_0 rfl rfl) ?_
  refine zQ.s (fun h => zs_iload_n (i := 1) o dJ6_checkElementIndex_1 rfl rfl) ?_
  obtain ⟨g1, hm⟩ := gd_e hm
  obtain ⟨y2, c_y2, hm⟩ := bd_e hm
  refine zh_Vi o g1 ml_J6_115 (J_J6_isElementIndex G _ _ _ _ _  c_y2) dJ6_checkElementIndex_2 rfl rfl rfl rfl (by omega) (by omega) ?_
  refine zQ.b (fun h => zs_if_ne (tgt := 21) o dJ6_checkElementIndex_5 (by decide)) (fun c => ?_) (fun c => ?_)
  · have hm := if_e2 hm c
    refine zh_retv o f dJ6_checkElementIndex_21 (by omega) (by omega) ((so_e hm).trans hR9.symm)
  · have hm := if_e1 hm c
    exact no_e hm

def j_J24_init (h : zH) (p : Nat) (a1 : Nat) (a2 : Nat) (a3 : Nat) : Option zH :=
  gd (nzr p) <|
  gd (kd h p 14) <|
  gd (wr h p) <|
  lt (pR h 14 0 p a2) fun S4 =>
  gd (kd S4 p 14) <|
  gd (wr S4 p) <|
  lt (pR S4 14 1 p a3) fun S7 =>
  gd (kd S7 p 14) <|
  gd (wr S7 p) <|
  lt (pR S7 14 2 p a1) fun S10 =>
  some S10

set_option maxHeartbeats 40000000 in
theorem J_J24_init (G : zG) (h : zH) (p : Nat) (a1 : Nat) (a2 : Nat) (a3 : Nat) (h9 : zH) (hm : j_J24_init h p a1 a2 a3 = some h9) : zJv G yJ24_init cJ24_init 4 none 1 0 0 [zrf p, zrf a1, zrf a2, zrf a3] h h9 := by
  refine zCo.st [some (zrf p), some (zrf a1), some (zrf a2), some (zrf a3)] rfl rfl (by simp only [zarg_r, zarg_i, zarg_l, zarg_0]; rfl) (fun X o f0 hin hw0 => ?_)
  have f := f0.e
  have hin : (Xt X).name = "<init>" := hin
  refine (?_ : zQ (EH h) G X 0 0 0 [some (zrf p), some (zrf a1), some (zrf a2), some (zrf a3)] []) h rfl hw0
  clear hw0
  generalize hR9 : (h9 : zH) = R at hm
  unfold j_J24_init at hm
  refine zQ.s (fun h => zs_aload_n (i := 0) o dJ24_init_0 rfl rfl) ?_
  obtain ⟨g1, hm⟩ := gd_e hm
  refine zh_objInit o g1 q1574 q163 q164 dJ24_init_1 rfl rfl ?_
  refine zQ.s (fun h => zs_aload_n (i := 0) o dJ24_init_4 rfl rfl) ?_
  refine zQ.s (fun h => zs_aload_n (i := 2) o dJ24_init_5 rfl rfl) ?_
  obtain ⟨g2, hm⟩ := gd_e hm
  obtain ⟨g3, hm⟩ := gd_e hm
  obtain ⟨S4, e_S4, hm⟩ := lt_e hm
  refine zh_putR o g2 g3 fl_J24_7_14 rfl rfl dJ24_init_6 e_S4 ?_
  refine zQ.s (fun h => zs_aload_n (i := 0) o dJ24_init_9 rfl rfl) ?_
  refine zQ.s (fun h => zs_aload_n (i := 3) o dJ24_init_10 rfl rfl) ?_
  obtain ⟨g5, hm⟩ := gd_e hm
  obtain ⟨g6, hm⟩ := gd_e hm
  obtain ⟨S7, e_S7, hm⟩ := lt_e hm
  refine zh_putR o g5 g6 fl_J24_13_14 rfl rfl dJ24_init_11 e_S7 ?_
  refine zQ.s (fun h => zs_aload_n (i := 0) o dJ24_init_14 rfl rfl) ?_
  refine zQ.s (fun h => zs_aload_n (i := 1) o dJ24_init_15 rfl rfl) ?_
  obtain ⟨g8, hm⟩ := gd_e hm
  obtain ⟨g9, hm⟩ := gd_e hm
  obtain ⟨S10, e_S10, hm⟩ := lt_e hm
  refine zh_putR o g8 g9 fl_J24_17_14 rfl rfl dJ24_init_16 e_S10 ?_
  refine zh_retv o f dJ24_init_19 (by omega) (by omega) ((so_e hm).trans hR9.symm)

def j_J6_linkLast_j38 (h : zH) (x0 : Nat) : Option zH :=
  gd (kd h x0 13) <|
  gd (kd h x0 13) <|
  gd (wr h x0) <|
  lt (pI h 13 1 x0 ((hI h 13 1 x0) + (1 : Int32))) fun S4 =>
  gd (kd S4 x0 13) <|
  gd (kd S4 x0 13) <|
  gd (wr S4 x0) <|
  lt (pI S4 13 0 x0 ((hI S4 13 0 x0) + (1 : Int32))) fun S8 =>
  some S8
def j_J6_linkLast (h : zH) (p : Nat) (a1 : Nat) : Option zH :=
  gd (kd h p 13) <|
  lt (hR h 13 3 p) fun r2 =>
  lt (zT h + 1) fun r3 =>
  lt (nw h 14 (rl h p) 0) fun S4 =>
  gd (nzr r3) <|
  bd (j_J24_init S4 r3 r2 a1 0) fun y6 =>
  gd (kd y6 p 13) <|
  gd (wr y6 p) <|
  lt (pR y6 13 3 p r3) fun S9 =>
  if r2 = 0 then
    gd (kd S9 p 13) <|
    gd (wr S9 p) <|
    lt (pR S9 13 2 p r3) fun S15 =>
    j_J6_linkLast_j38 S15 p
  else
    gd (kd S9 r2 14) <|
    gd (wr S9 r2) <|
    lt (pR S9 14 1 r2 r3) fun S12 =>
    j_J6_linkLast_j38 S12 p

set_option maxHeartbeats 40000000 in
theorem J_J6_linkLast (G : zG) (h : zH) (p : Nat) (a1 : Nat) (h9 : zH) (hm : j_J6_linkLast h p a1 = some h9) : zJv G yJ6_linkLast cJ6_linkLast 4 none 2 1 3 [zrf p, zrf a1] h h9 := by
  refine zCo.st [some (zrf p), some (zrf a1), none, none] rfl rfl (by simp only [zarg_r, zarg_i, zarg_l, zarg_0]; rfl) (fun X o f0 hin hw0 => ?_)
  have f := f0.e
  have hin : (Xt X).name = "linkLast" := hin
  refine (?_ : zQ (EH h) G X 0 0 0 [some (zrf p), some (zrf a1), none, none] []) h rfl hw0
  clear hw0
  generalize hR9 : (h9 : zH) = R at hm
  have hj38 : ∀ (h : zH) (x0 : Nat) (cl sl : Nat), cl + (0) ≤ 1 → sl + (0) ≤ 3 → j_J6_linkLast_j38 h x0 = some R → zQ (EH h) G X cl sl 38 [some (zrf x0), none, none, none] [] := by
    intro h x0 cl sl hc hs hm
    unfold j_J6_linkLast_j38 at hm
    refine zQ.s (fun h => zs_aload_n (i := 0) o dJ6_linkLast_38 rfl rfl) ?_
    refine zQ.s (fun h => zs_dup o dJ6_linkLast_39 (by first | rfl | exact zrf_cat _)) ?_
    obtain ⟨g1, hm⟩ := gd_e hm
    refine zh_getI o g1 fl_J6_7_13 rfl dJ6_linkLast_40 ?_
    refine zQ.s (fun h => zs_iconst (v := 1) o dJ6_linkLast_43 (by decide)) ?_
    refine zQ.s (fun h => zs_iadd o dJ6_linkLast_44) ?_
    obtain ⟨g2, hm⟩ := gd_e hm
    obtain ⟨g3, hm⟩ := gd_e hm
    obtain ⟨S4, e_S4, hm⟩ := lt_e hm
    refine zh_putI o g2 g3 fl_J6_7_13 rfl rfl ⟨rfl, rfl⟩ dJ6_linkLast_45 e_S4 ?_
    refine zQ.s (fun h => zs_aload_n (i := 0) o dJ6_linkLast_48 rfl rfl) ?_
    refine zQ.s (fun h => zs_dup o dJ6_linkLast_49 (by first | rfl | exact zrf_cat _)) ?_
    obtain ⟨g5, hm⟩ := gd_e hm
    refine zh_getI o g5 fl_J6_33_13 rfl dJ6_linkLast_50 ?_
    refine zQ.s (fun h => zs_iconst (v := 1) o dJ6_linkLast_53 (by decide)) ?_
    refine zQ.s (fun h => zs_iadd o dJ6_linkLast_54) ?_
    obtain ⟨g6, hm⟩ := gd_e hm
    obtain ⟨g7, hm⟩ := gd_e hm
    obtain ⟨S8, e_S8, hm⟩ := lt_e hm
    refine zh_putI o g6 g7 fl_J6_33_13 rfl rfl ⟨rfl, rfl⟩ dJ6_linkLast_55 e_S8 ?_
    refine zh_retv o f dJ6_linkLast_58 (by omega) (by omega) ((so_e hm).trans hR9.symm)
  unfold j_J6_linkLast at hm
  refine zQ.s (fun h => zs_aload_n (i := 0) o dJ6_linkLast_0 rfl rfl) ?_
  obtain ⟨g1, hm⟩ := gd_e hm
  refine zh_getR o g1 fl_J6_27_13 rfl dJ6_linkLast_1 ?_
  obtain ⟨r2, e_r2, hm⟩ := lt_e hm
  refine zQ.nmr e_r2 ?_
  refine zQ.s (fun h => zs_astore_n (i := 2) o dJ6_linkLast_4 rfl (by decide) (Or.inr (zc2_ref rfl)) (by simp only [List.set_cons_succ, List.set_cons_zero]; rfl)) ?_
  obtain ⟨r3, e_r3, hm⟩ := lt_e hm
  obtain ⟨S4, e_S4, hm⟩ := lt_e hm
  refine zh_new (N := 3) o nl_J6_22 rfl dJ6_linkLast_5 (by omega) (by omega) e_S4 ?_
  refine zQ.nmr e_r3 ?_
  refine zQ.s (fun h => zs_dup o dJ6_linkLast_8 (by first | rfl | exact zrf_cat _)) ?_
  refine zQ.s (fun h => zs_aload_n (i := 2) o dJ6_linkLast_9 rfl rfl) ?_
  refine zQ.s (fun h => zs_aload_n (i := 1) o dJ6_linkLast_10 rfl rfl) ?_
  refine zQ.s (fun h => zs_nul o dJ6_linkLast_11) ?_
  obtain ⟨g5, hm⟩ := gd_e hm
  obtain ⟨y6, c_y6, hm⟩ := bd_e hm
  refine zh_Iv o g5 ml_J6_24 (J_J24_init G _ _ _ _ _ _  c_y6) dJ6_linkLast_12 rfl rfl rfl rfl (by omega) (by omega) ?_
  refine zQ.s (fun h => zs_astore_n (i := 3) o dJ6_linkLast_15 rfl (by decide) (Or.inr (zc2_ref rfl)) (by simp only [List.set_cons_succ, List.set_cons_zero]; rfl)) ?_
  refine zQ.s (fun h => zs_aload_n (i := 0) o dJ6_linkLast_16 rfl rfl) ?_
  refine zQ.s (fun h => zs_aload_n (i := 3) o dJ6_linkLast_17 rfl rfl) ?_
  obtain ⟨g7, hm⟩ := gd_e hm
  obtain ⟨g8, hm⟩ := gd_e hm
  obtain ⟨S9, e_S9, hm⟩ := lt_e hm
  refine zh_putR o g7 g8 fl_J6_27_13 rfl rfl dJ6_linkLast_18 e_S9 ?_
  refine zQ.s (fun h => zs_aload_n (i := 2) o dJ6_linkLast_21 rfl rfl) ?_
  refine zQ.b (fun h => zs_ifnonnull (tgt := 33) o dJ6_linkLast_22 (by decide)) (fun c => ?_) (fun c => ?_)
  · have hm := if_e2 hm c
    refine zQ.s (fun h => zs_aload_n (i := 2) o dJ6_linkLast_33 rfl rfl) ?_
    refine zQ.s (fun h => zs_aload_n (i := 3) o dJ6_linkLast_34 rfl rfl) ?_
    obtain ⟨g10, hm⟩ := gd_e hm
    obtain ⟨g11, hm⟩ := gd_e hm
    obtain ⟨S12, e_S12, hm⟩ := lt_e hm
    refine zh_putR o g10 g11 fl_J6_36_14 rfl rfl dJ6_linkLast_35 e_S12 ?_
    refine zQ.fg (zl_s (zl_n (zl_n (zl_n zl_0)))) ?_
    exact hj38 _ _ _ _ (by omega) (by omega) hm
  · have hm := if_e1 hm c
    refine zQ.s (fun h => zs_aload_n (i := 0) o dJ6_linkLast_25 rfl rfl) ?_
    refine zQ.s (fun h => zs_aload_n (i := 3) o dJ6_linkLast_26 rfl rfl) ?_
    obtain ⟨g13, hm⟩ := gd_e hm
    obtain ⟨g14, hm⟩ := gd_e hm
    obtain ⟨S15, e_S15, hm⟩ := lt_e hm
    refine zh_putR o g13 g14 fl_J6_18_13 rfl rfl dJ6_linkLast_27 e_S15 ?_
    refine zQ.s (fun h => zs_goto (tgt := 38) o dJ6_linkLast_30 (by decide)) ?_
    refine zQ.fg (zl_s (zl_n (zl_n (zl_n zl_0)))) ?_
    exact hj38 _ _ _ _ (by omega) (by omega) hm

def j_J6_add (h : zH) (p : Nat) (a1 : Nat) : Option (zH × Int32) :=
  gd (kd h p 13) <|
  bd (j_J6_linkLast h p a1) fun y2 =>
  some (y2, (1 : Int32))

set_option maxHeartbeats 40000000 in
theorem J_J6_add (G : zG) (h : zH) (p : Nat) (a1 : Nat) (V : Int32) (h9 : zH) (hm : j_J6_add h p a1 = some (h9, V)) : zJi G yJ6_add cJ6_add 2 (some .boolean) 3 1 3 [zrf p, zrf a1] h V h9 := by
  refine zCo.st [some (zrf p), some (zrf a1)] rfl rfl (by simp only [zarg_r, zarg_i, zarg_l, zarg_0]; rfl) (fun X o f0 hin hw0 => ?_)
  have f := f0.e
  have hin : (Xt X).name = "add" := hin
  refine (?_ : zQ (EH h) G X 0 0 0 [some (zrf p), some (zrf a1)] []) h rfl hw0
  clear hw0
  generalize hR9 : ((h9, V) : (zH × Int32)) = R at hm
  unfold j_J6_add at hm
  refine zQ.s (fun h => zs_aload_n (i := 0) o dJ6_add_0 rfl rfl) ?_
  refine zQ.s (fun h => zs_aload_n (i := 1) o dJ6_add_1 rfl rfl) ?_
  obtain ⟨g1, hm⟩ := gd_e hm
  obtain ⟨y2, c_y2, hm⟩ := bd_e hm
  refine zh_Vv o g1 ml_J6_57 (J_J6_linkLast G _ _ _ _  c_y2) dJ6_add_2 rfl rfl rfl rfl (by omega) (by omega) ?_
  refine zQ.s (fun h => zs_iconst (v := 1) o dJ6_add_5 (by decide)) ?_
  refine zh_reti o f dJ6_add_6 rfl (by omega) (by omega) ((so_e hm).trans hR9.symm)

def j_J6_addLast (h : zH) (p : Nat) (a1 : Nat) : Option zH :=
  gd (kd h p 13) <|
  bd (j_J6_linkLast h p a1) fun y2 =>
  some y2

set_option maxHeartbeats 40000000 in
theorem J_J6_addLast (G : zG) (h : zH) (p : Nat) (a1 : Nat) (h9 : zH) (hm : j_J6_addLast h p a1 = some h9) : zJv G yJ6_addLast cJ6_addLast 2 none 3 1 3 [zrf p, zrf a1] h h9 := by
  refine zCo.st [some (zrf p), some (zrf a1)] rfl rfl (by simp only [zarg_r, zarg_i, zarg_l, zarg_0]; rfl) (fun X o f0 hin hw0 => ?_)
  have f := f0.e
  have hin : (Xt X).name = "addLast" := hin
  refine (?_ : zQ (EH h) G X 0 0 0 [some (zrf p), some (zrf a1)] []) h rfl hw0
  clear hw0
  generalize hR9 : (h9 : zH) = R at hm
  unfold j_J6_addLast at hm
  refine zQ.s (fun h => zs_aload_n (i := 0) o dJ6_addLast_0 rfl rfl) ?_
  refine zQ.s (fun h => zs_aload_n (i := 1) o dJ6_addLast_1 rfl rfl) ?_
  obtain ⟨g1, hm⟩ := gd_e hm
  obtain ⟨y2, c_y2, hm⟩ := bd_e hm
  refine zh_Vv o g1 ml_J6_57 (J_J6_linkLast G _ _ _ _  c_y2) dJ6_addLast_2 rfl rfl rfl rfl (by omega) (by omega) ?_
  refine zh_retv o f dJ6_addLast_5 (by omega) (by omega) ((so_e hm).trans hR9.symm)

def j_J6_node_b17 (k17 : zH → Int32 → Nat → Int32 → Option (zH × Nat)) (h : zH) (x1 : Int32) (x2 : Nat) (x3 : Int32) : Option (zH × Nat) :=
  if x1 ≤ x3 then
    some (h, x2)
  else
    gd (kd h x2 14) <|
    lt (hR h 14 1 x2) fun r2 =>
    k17 h x1 r2 (x3 + (1 : Int32))
def j_J6_node_l17 : Nat → zH → Int32 → Nat → Int32 → Option (zH × Nat)
  | 0 => fun _ _ _ _ => none
  | n + 1 => j_J6_node_b17 (j_J6_node_l17 n)
def j_J6_node_b47 (k47 : zH → Int32 → Nat → Int32 → Option (zH × Nat)) (h : zH) (x1 : Int32) (x2 : Nat) (x3 : Int32) : Option (zH × Nat) :=
  if x3 ≤ x1 then
    some (h, x2)
  else
    gd (kd h x2 14) <|
    lt (hR h 14 2 x2) fun r2 =>
    k47 h x1 r2 (x3 + (-1 : Int32))
def j_J6_node_l47 : Nat → zH → Int32 → Nat → Int32 → Option (zH × Nat)
  | 0 => fun _ _ _ _ => none
  | n + 1 => j_J6_node_b47 (j_J6_node_l47 n)
def j_J6_node (h : zH) (p : Nat) (a1 : Int32) : Option (zH × Nat) :=
  gd (kd h p 13) <|
  if ((hI h 13 1 p) >>> ((1 : Int32) &&& 31)) ≤ a1 then
    gd (kd h p 13) <|
    lt (hR h 13 3 p) fun r3 =>
    gd (kd h p 13) <|
    lt ((hI h 13 1 p) - (1 : Int32)) fun v5 =>
    j_J6_node_l47 100 h a1 r3 v5
  else
    gd (kd h p 13) <|
    lt (hR h 13 2 p) fun r7 =>
    j_J6_node_l17 100 h a1 r7 (0 : Int32)

set_option maxHeartbeats 40000000 in
theorem J_J6_node (G : zG) (h : zH) (p : Nat) (a1 : Int32) (V : Nat) (h9 : zH) (hm : j_J6_node h p a1 = some (h9, V)) : zJr G yJ6_node cJ6_node 4 (some (.object "java/util/LinkedList$Node")) 0 0 0 [zrf p, .int a1] h V h9 := by
  refine zCo.st [some (zrf p), some (.int a1), none, none] rfl rfl (by simp only [zarg_r, zarg_i, zarg_l, zarg_0]; rfl) (fun X o f0 hin hw0 => ?_)
  have f := f0.e
  have hin : (Xt X).name = "node" := hin
  refine (?_ : zQ (EH h) G X 0 0 0 [some (zrf p), some (.int a1), none, none] []) h rfl hw0
  clear hw0
  generalize hR9 : ((h9, V) : (zH × Nat)) = R at hm
  have hl47 : ∀ (n47 : Nat), n47 ≤ 100 → ∀ (h : zH) (x1 : Int32) (x2 : Nat) (x3 : Int32) (cl sl : Nat), cl + (0) ≤ 0 → sl + (0) ≤ 0 → j_J6_node_l47 n47 h x1 x2 x3 = some R → zQ (EH h) G X cl sl 47 [none, some (.int x1), some (zrf x2), some (.int x3)] [] := by
    intro n47
    induction n47 with
    | zero => intro _ h x1 x2 x3 cl sl _ _ hm; exact no_e hm
    | succ n47 ih =>
      intro hf47
      have ih47 := ih (by omega)
      intro h x1 x2 x3 cl sl hc hs hm
      have hm : j_J6_node_b47 (j_J6_node_l47 n47) h x1 x2 x3 = some R := hm
      unfold j_J6_node_b47 at hm
      refine zQ.s (fun h => zs_iload_n (i := 3) o dJ6_node_47 rfl rfl) ?_
      refine zQ.s (fun h => zs_iload_n (i := 1) o dJ6_node_48 rfl rfl) ?_
      refine zQ.b (fun h => zs_icmp_le (tgt := 63) o dJ6_node_49 (by decide)) (fun c => ?_) (fun c => ?_)
      · have hm := if_e1 hm c
        refine zQ.s (fun h => zs_aload_n (i := 2) o dJ6_node_63 rfl rfl) ?_
        refine zh_retr o f dJ6_node_64 rfl (by omega) (by omega) ((so_e hm).trans hR9.symm)
      · have hm := if_e2 hm c
        refine zQ.s (fun h => zs_aload_n (i := 2) o dJ6_node_52 rfl rfl) ?_
        obtain ⟨g1, hm⟩ := gd_e hm
        refine zh_getR o g1 fl_J6_30_14 rfl dJ6_node_53 ?_
        obtain ⟨r2, e_r2, hm⟩ := lt_e hm
        refine zQ.nmr e_r2 ?_
        refine zQ.s (fun h => zs_astore_n (i := 2) o dJ6_node_56 rfl (by decide) (Or.inr rfl) (by simp only [List.set_cons_succ, List.set_cons_zero]; rfl)) ?_
        refine zQ.s (fun h => zs_iinc (i := 3) (v := x3 + (-1 : Int32)) o dJ6_node_57 rfl rfl (by decide) (Or.inr (zc2_ref rfl)) (by simp only [List.set_cons_succ, List.set_cons_zero]; rfl)) ?_
        refine zQ.s (fun h => zs_goto (tgt := 47) o dJ6_node_60 (by decide)) ?_
        exact ih47 _ _ _ _ _ _ (by omega) (by omega) hm
  have hl17 : ∀ (n17 : Nat), n17 ≤ 100 → ∀ (h : zH) (x1 : Int32) (x2 : Nat) (x3 : Int32) (cl sl : Nat), cl + (0) ≤ 0 → sl + (0) ≤ 0 → j_J6_node_l17 n17 h x1 x2 x3 = some R → zQ (EH h) G X cl sl 17 [none, some (.int x1), some (zrf x2), some (.int x3)] [] := by
    intro n17
    induction n17 with
    | zero => intro _ h x1 x2 x3 cl sl _ _ hm; exact no_e hm
    | succ n17 ih =>
      intro hf17
      have ih17 := ih (by omega)
      intro h x1 x2 x3 cl sl hc hs hm
      have hm : j_J6_node_b17 (j_J6_node_l17 n17) h x1 x2 x3 = some R := hm
      unfold j_J6_node_b17 at hm
      refine zQ.s (fun h => zs_iload_n (i := 3) o dJ6_node_17 rfl rfl) ?_
      refine zQ.s (fun h => zs_iload_n (i := 1) o dJ6_node_18 rfl rfl) ?_
      refine zQ.b (fun h => zs_icmp_ge (tgt := 33) o dJ6_node_19 (by decide)) (fun c => ?_) (fun c => ?_)
      · have hm := if_e1 hm c
        refine zQ.s (fun h => zs_aload_n (i := 2) o dJ6_node_33 rfl rfl) ?_
        refine zh_retr o f dJ6_node_34 rfl (by omega) (by omega) ((so_e hm).trans hR9.symm)
      · have hm := if_e2 hm c
        refine zQ.s (fun h => zs_aload_n (i := 2) o dJ6_node_22 rfl rfl) ?_
        obtain ⟨g1, hm⟩ := gd_e hm
        refine zh_getR o g1 fl_J6_36_14 rfl dJ6_node_23 ?_
        obtain ⟨r2, e_r2, hm⟩ := lt_e hm
        refine zQ.nmr e_r2 ?_
        refine zQ.s (fun h => zs_astore_n (i := 2) o dJ6_node_26 rfl (by decide) (Or.inr rfl) (by simp only [List.set_cons_succ, List.set_cons_zero]; rfl)) ?_
        refine zQ.s (fun h => zs_iinc (i := 3) (v := x3 + (1 : Int32)) o dJ6_node_27 rfl rfl (by decide) (Or.inr (zc2_ref rfl)) (by simp only [List.set_cons_succ, List.set_cons_zero]; rfl)) ?_
        refine zQ.s (fun h => zs_goto (tgt := 17) o dJ6_node_30 (by decide)) ?_
        exact ih17 _ _ _ _ _ _ (by omega) (by omega) hm
  unfold j_J6_node at hm
  refine zQ.s (fun h => zs_iload_n (i := 1) o dJ6_node_0 rfl rfl) ?_
  refine zQ.s (fun h => zs_aload_n (i := 0) o dJ6_node_1 rfl rfl) ?_
  obtain ⟨g1, hm⟩ := gd_e hm
  refine zh_getI o g1 fl_J6_7_13 rfl dJ6_node_2 ?_
  refine zQ.s (fun h => zs_iconst (v := 1) o dJ6_node_5 (by decide)) ?_
  refine zQ.s (fun h => zs_ishr o dJ6_node_6) ?_
  refine zQ.b (fun h => zs_icmp_ge (tgt := 35) o dJ6_node_7 (by decide)) (fun c => ?_) (fun c => ?_)
  · have hm := if_e1 hm c
    refine zQ.s (fun h => zs_aload_n (i := 0) o dJ6_node_35 rfl rfl) ?_
    obtain ⟨g2, hm⟩ := gd_e hm
    refine zh_getR o g2 fl_J6_27_13 rfl dJ6_node_36 ?_
    obtain ⟨r3, e_r3, hm⟩ := lt_e hm
    refine zQ.nmr e_r3 ?_
    refine zQ.s (fun h => zs_astore_n (i := 2) o dJ6_node_39 rfl (by decide) (Or.inr rfl) (by simp only [List.set_cons_succ, List.set_cons_zero]; rfl)) ?_
    refine zQ.s (fun h => zs_aload_n (i := 0) o dJ6_node_40 rfl rfl) ?_
    obtain ⟨g4, hm⟩ := gd_e hm
    refine zh_getI o g4 fl_J6_7_13 rfl dJ6_node_41 ?_
    refine zQ.s (fun h => zs_iconst (v := 1) o dJ6_node_44 (by decide)) ?_
    refine zQ.s (fun h => zs_isub o dJ6_node_45) ?_
    obtain ⟨v5, e_v5, hm⟩ := lt_e hm
    refine zQ.nmi e_v5 ?_
    refine zQ.s (fun h => zs_istore_n (i := 3) o dJ6_node_46 rfl (by decide) (Or.inr (zc2_ref rfl)) (by simp only [List.set_cons_succ, List.set_cons_zero]; rfl)) ?_
    refine zQ.fg (zl_n (zl_s (zl_s (zl_s zl_0)))) ?_
    exact hl47 100 (Nat.le_refl _) _ _ _ _ _ _ (by omega) (by omega) hm
  · have hm := if_e2 hm c
    refine zQ.s (fun h => zs_aload_n (i := 0) o dJ6_node_10 rfl rfl) ?_
    obtain ⟨g6, hm⟩ := gd_e hm
    refine zh_getR o g6 fl_J6_18_13 rfl dJ6_node_11 ?_
    obtain ⟨r7, e_r7, hm⟩ := lt_e hm
    refine zQ.nmr e_r7 ?_
    refine zQ.s (fun h => zs_astore_n (i := 2) o dJ6_node_14 rfl (by decide) (Or.inr rfl) (by simp only [List.set_cons_succ, List.set_cons_zero]; rfl)) ?_
    refine zQ.s (fun h => zs_iconst (v := 0) o dJ6_node_15 (by decide)) ?_
    refine zQ.s (fun h => zs_istore_n (i := 3) o dJ6_node_16 rfl (by decide) (Or.inr (zc2_ref rfl)) (by simp only [List.set_cons_succ, List.set_cons_zero]; rfl)) ?_
    refine zQ.fg (zl_n (zl_s (zl_s (zl_s zl_0)))) ?_
    exact hl17 100 (Nat.le_refl _) _ _ _ _ _ _ (by omega) (by omega) hm

def j_J6_get (h : zH) (p : Nat) (a1 : Int32) : Option (zH × Nat) :=
  gd (kd h p 13) <|
  bd (j_J6_checkElementIndex h p a1) fun y2 =>
  gd (kd y2 p 13) <|
  bd (j_J6_node y2 p a1) fun y4 =>
  gd (kd y4.1 y4.2 14) <|
  some (y4.1, hR y4.1 14 0 y4.2)

set_option maxHeartbeats 40000000 in
theorem J_J6_get (G : zG) (h : zH) (p : Nat) (a1 : Int32) (V : Nat) (h9 : zH) (hm : j_J6_get h p a1 = some (h9, V)) : zJr G yJ6_get cJ6_get 2 (some (.object "java/lang/Object")) 2 0 0 [zrf p, .int a1] h V h9 := by
  refine zCo.st [some (zrf p), some (.int a1)] rfl rfl (by simp only [zarg_r, zarg_i, zarg_l, zarg_0]; rfl) (fun X o f0 hin hw0 => ?_)
  have f := f0.e
  have hin : (Xt X).name = "get" := hin
  refine (?_ : zQ (EH h) G X 0 0 0 [some (zrf p), some (.int a1)] []) h rfl hw0
  clear hw0
  generalize hR9 : ((h9, V) : (zH × Nat)) = R at hm
  unfold j_J6_get at hm
  refine zQ.s (fun h => zs_aload_n (i := 0) o dJ6_get_0 rfl rfl) ?_
  refine zQ.s (fun h => zs_iload_n (i := 1) o dJ6_get_1 rfl rfl) ?_
  obtain ⟨g1, hm⟩ := gd_e hm
  obtain ⟨y2, c_y2, hm⟩ := bd_e hm
  refine zh_Vv o g1 ml_J6_90 (J_J6_checkElementIndex G _ _ _ _  c_y2) dJ6_get_2 rfl rfl rfl rfl (by omega) (by omega) ?_
  refine zQ.s (fun h => zs_aload_n (i := 0) o dJ6_get_5 rfl rfl) ?_
  refine zQ.s (fun h => zs_iload_n (i := 1) o dJ6_get_6 rfl rfl) ?_
  obtain ⟨g3, hm⟩ := gd_e hm
  obtain ⟨y4, c_y4, hm⟩ := bd_e hm
  refine zh_Vr o g3 ml_J6_86 (J_J6_node G _ _ _ _ _  c_y4) dJ6_get_7 rfl rfl rfl rfl (by omega) (by omega) ?_
  obtain ⟨g5, hm⟩ := gd_e hm
  refine zh_getR o g5 fl_J6_39_14 rfl dJ6_get_10 ?_
  refine zh_retr o f dJ6_get_13 rfl (by omega) (by omega) ((so_e hm).trans hR9.symm)

def j_J6_unlink_j64 (h : zH) (x0 : Nat) (x1 : Nat) (x2 : Nat) : Option (zH × Nat) :=
  gd (kd h x1 14) <|
  gd (wr h x1) <|
  lt (pR h 14 0 x1 0) fun S3 =>
  gd (kd S3 x0 13) <|
  gd (kd S3 x0 13) <|
  gd (wr S3 x0) <|
  lt (pI S3 13 1 x0 ((hI S3 13 1 x0) - (1 : Int32))) fun S7 =>
  gd (kd S7 x0 13) <|
  gd (kd S7 x0 13) <|
  gd (wr S7 x0) <|
  lt (pI S7 13 0 x0 ((hI S7 13 0 x0) + (1 : Int32))) fun S11 =>
  some (S11, x2)
def j_J6_unlink_j40 (h : zH) (x0 : Nat) (x1 : Nat) (x2 : Nat) (x3 : Nat) (x4 : Nat) : Option (zH × Nat) :=
  if x3 = 0 then
    gd (kd h x0 13) <|
    gd (wr h x0) <|
    lt (pR h 13 3 x0 x4) fun S9 =>
    j_J6_unlink_j64 S9 x0 x1 x2
  else
    gd (kd h x3 14) <|
    gd (wr h x3) <|
    lt (pR h 14 2 x3 x4) fun S3 =>
    gd (kd S3 x1 14) <|
    gd (wr S3 x1) <|
    lt (pR S3 14 1 x1 0) fun S6 =>
    j_J6_unlink_j64 S6 x0 x1 x2
def j_J6_unlink (h : zH) (p : Nat) (a1 : Nat) : Option (zH × Nat) :=
  gd (kd h a1 14) <|
  lt (hR h 14 0 a1) fun r2 =>
  gd (kd h a1 14) <|
  lt (hR h 14 1 a1) fun r4 =>
  gd (kd h a1 14) <|
  lt (hR h 14 2 a1) fun r6 =>
  if r6 = 0 then
    gd (kd h p 13) <|
    gd (wr h p) <|
    lt (pR h 13 2 p r4) fun S15 =>
    j_J6_unlink_j40 S15 p a1 r2 r4 r6
  else
    gd (kd h r6 14) <|
    gd (wr h r6) <|
    lt (pR h 14 1 r6 r4) fun S9 =>
    gd (kd S9 a1 14) <|
    gd (wr S9 a1) <|
    lt (pR S9 14 2 a1 0) fun S12 =>
    j_J6_unlink_j40 S12 p a1 r2 r4 r6

set_option maxHeartbeats 40000000 in
theorem J_J6_unlink (G : zG) (h : zH) (p : Nat) (a1 : Nat) (V : Nat) (h9 : zH) (hm : j_J6_unlink h p a1 = some (h9, V)) : zJr G yJ6_unlink cJ6_unlink 5 (some (.object "java/lang/Object")) 0 0 0 [zrf p, zrf a1] h V h9 := by
  refine zCo.st [some (zrf p), some (zrf a1), none, none, none] rfl rfl (by simp only [zarg_r, zarg_i, zarg_l, zarg_0]; rfl) (fun X o f0 hin hw0 => ?_)
  have f := f0.e
  have hin : (Xt X).name = "unlink" := hin
  refine (?_ : zQ (EH h) G X 0 0 0 [some (zrf p), some (zrf a1), none, none, none] []) h rfl hw0
  clear hw0
  generalize hR9 : ((h9, V) : (zH × Nat)) = R at hm
  have hj64 : ∀ (h : zH) (x0 : Nat) (x1 : Nat) (x2 : Nat) (cl sl : Nat), cl + (0) ≤ 0 → sl + (0) ≤ 0 → j_J6_unlink_j64 h x0 x1 x2 = some R → zQ (EH h) G X cl sl 64 [some (zrf x0), some (zrf x1), some (zrf x2), none, none] [] := by
    intro h x0 x1 x2 cl sl hc hs hm
    unfold j_J6_unlink_j64 at hm
    refine zQ.s (fun h => zs_aload_n (i := 1) o dJ6_unlink_64 rfl rfl) ?_
    refine zQ.s (fun h => zs_nul o dJ6_unlink_65) ?_
    obtain ⟨g1, hm⟩ := gd_e hm
    obtain ⟨g2, hm⟩ := gd_e hm
    obtain ⟨S3, e_S3, hm⟩ := lt_e hm
    refine zh_putR o g1 g2 fl_J6_39_14 rfl rfl dJ6_unlink_66 e_S3 ?_
    refine zQ.s (fun h => zs_aload_n (i := 0) o dJ6_unlink_69 rfl rfl) ?_
    refine zQ.s (fun h => zs_dup o dJ6_unlink_70 (by first | rfl | exact zrf_cat _)) ?_
    obtain ⟨g4, hm⟩ := gd_e hm
    refine zh_getI o g4 fl_J6_7_13 rfl dJ6_unlink_71 ?_
    refine zQ.s (fun h => zs_iconst (v := 1) o dJ6_unlink_74 (by decide)) ?_
    refine zQ.s (fun h => zs_isub o dJ6_unlink_75) ?_
    obtain ⟨g5, hm⟩ := gd_e hm
    obtain ⟨g6, hm⟩ := gd_e hm
    obtain ⟨S7, e_S7, hm⟩ := lt_e hm
    refine zh_putI o g5 g6 fl_J6_7_13 rfl rfl ⟨rfl, rfl⟩ dJ6_unlink_76 e_S7 ?_
    refine zQ.s (fun h => zs_aload_n (i := 0) o dJ6_unlink_79 rfl rfl) ?_
    refine zQ.s (fun h => zs_dup o dJ6_unlink_80 (by first | rfl | exact zrf_cat _)) ?_
    obtain ⟨g8, hm⟩ := gd_e hm
    refine zh_getI o g8 fl_J6_33_13 rfl dJ6_unlink_81 ?_
    refine zQ.s (fun h => zs_iconst (v := 1) o dJ6_unlink_84 (by decide)) ?_
    refine zQ.s (fun h => zs_iadd o dJ6_unlink_85) ?_
    obtain ⟨g9, hm⟩ := gd_e hm
    obtain ⟨g10, hm⟩ := gd_e hm
    obtain ⟨S11, e_S11, hm⟩ := lt_e hm
    refine zh_putI o g9 g10 fl_J6_33_13 rfl rfl ⟨rfl, rfl⟩ dJ6_unlink_86 e_S11 ?_
    refine zQ.s (fun h => zs_aload_n (i := 2) o dJ6_unlink_89 rfl rfl) ?_
    refine zh_retr o f dJ6_unlink_90 rfl (by omega) (by omega) ((so_e hm).trans hR9.symm)
  have hj40 : ∀ (h : zH) (x0 : Nat) (x1 : Nat) (x2 : Nat) (x3 : Nat) (x4 : Nat) (cl sl : Nat), cl + (0) ≤ 0 → sl + (0) ≤ 0 → j_J6_unlink_j40 h x0 x1 x2 x3 x4 = some R → zQ (EH h) G X cl sl 40 [some (zrf x0), some (zrf x1), some (zrf x2), some (zrf x3), some (zrf x4)] [] := by
    intro h x0 x1 x2 x3 x4 cl sl hc hs hm
    unfold j_J6_unlink_j40 at hm
    refine zQ.s (fun h => zs_aload_n (i := 3) o dJ6_unlink_40 rfl rfl) ?_
    refine zQ.b (fun h => zs_ifnonnull (tgt := 53) o dJ6_unlink_41 (by decide)) (fun c => ?_) (fun c => ?_)
    · have hm := if_e2 hm c
      refine zQ.s (fun h => zs_aload_n (i := 3) o dJ6_unlink_53 rfl rfl) ?_
      refine zQ.s (fun h => zs_aload (i := 4) o dJ6_unlink_54 rfl) ?_
      obtain ⟨g1, hm⟩ := gd_e hm
      obtain ⟨g2, hm⟩ := gd_e hm
      obtain ⟨S3, e_S3, hm⟩ := lt_e hm
      refine zh_putR o g1 g2 fl_J6_30_14 rfl rfl dJ6_unlink_56 e_S3 ?_
      refine zQ.s (fun h => zs_aload_n (i := 1) o dJ6_unlink_59 rfl rfl) ?_
      refine zQ.s (fun h => zs_nul o dJ6_unlink_60) ?_
      obtain ⟨g4, hm⟩ := gd_e hm
      obtain ⟨g5, hm⟩ := gd_e hm
      obtain ⟨S6, e_S6, hm⟩ := lt_e hm
      refine zh_putR o g4 g5 fl_J6_36_14 rfl rfl dJ6_unlink_61 e_S6 ?_
      refine zQ.fg (zl_s (zl_s (zl_s (zl_n (zl_n zl_0))))) ?_
      exact hj64 _ _ _ _ _ _ (by omega) (by omega) hm
    · have hm := if_e1 hm c
      refine zQ.s (fun h => zs_aload_n (i := 0) o dJ6_unlink_44 rfl rfl) ?_
      refine zQ.s (fun h => zs_aload (i := 4) o dJ6_unlink_45 rfl) ?_
      obtain ⟨g7, hm⟩ := gd_e hm
      obtain ⟨g8, hm⟩ := gd_e hm
      obtain ⟨S9, e_S9, hm⟩ := lt_e hm
      refine zh_putR o g7 g8 fl_J6_27_13 rfl rfl dJ6_unlink_47 e_S9 ?_
      refine zQ.s (fun h => zs_goto (tgt := 64) o dJ6_unlink_50 (by decide)) ?_
      refine zQ.fg (zl_s (zl_s (zl_s (zl_n (zl_n zl_0))))) ?_
      exact hj64 _ _ _ _ _ _ (by omega) (by omega) hm
  unfold j_J6_unlink at hm
  refine zQ.s (fun h => zs_aload_n (i := 1) o dJ6_unlink_0 rfl rfl) ?_
  obtain ⟨g1, hm⟩ := gd_e hm
  refine zh_getR o g1 fl_J6_39_14 rfl dJ6_unlink_1 ?_
  obtain ⟨r2, e_r2, hm⟩ := lt_e hm
  refine zQ.nmr e_r2 ?_
  refine zQ.s (fun h => zs_astore_n (i := 2) o dJ6_unlink_4 rfl (by decide) (Or.inr (zc2_ref rfl)) (by simp only [List.set_cons_succ, List.set_cons_zero]; rfl)) ?_
  refine zQ.s (fun h => zs_aload_n (i := 1) o dJ6_unlink_5 rfl rfl) ?_
  obtain ⟨g3, hm⟩ := gd_e hm
  refine zh_getR o g3 fl_J6_36_14 rfl dJ6_unlink_6 ?_
  obtain ⟨r4, e_r4, hm⟩ := lt_e hm
  refine zQ.nmr e_r4 ?_
  refine zQ.s (fun h => zs_astore_n (i := 3) o dJ6_unlink_9 rfl (by decide) (Or.inr (zc2_ref rfl)) (by simp only [List.set_cons_succ, List.set_cons_zero]; rfl)) ?_
  refine zQ.s (fun h => zs_aload_n (i := 1) o dJ6_unlink_10 rfl rfl) ?_
  obtain ⟨g5, hm⟩ := gd_e hm
  refine zh_getR o g5 fl_J6_30_14 rfl dJ6_unlink_11 ?_
  obtain ⟨r6, e_r6, hm⟩ := lt_e hm
  refine zQ.nmr e_r6 ?_
  refine zQ.s (fun h => zs_astore (i := 4) o dJ6_unlink_14 (by decide) (Or.inr (zc2_ref rfl)) (by simp only [List.set_cons_succ, List.set_cons_zero]; rfl)) ?_
  refine zQ.s (fun h => zs_aload (i := 4) o dJ6_unlink_16 rfl) ?_
  refine zQ.b (fun h => zs_ifnonnull (tgt := 29) o dJ6_unlink_18 (by decide)) (fun c => ?_) (fun c => ?_)
  · have hm := if_e2 hm c
    refine zQ.s (fun h => zs_aload (i := 4) o dJ6_unlink_29 rfl) ?_
    refine zQ.s (fun h => zs_aload_n (i := 3) o dJ6_unlink_31 rfl rfl) ?_
    obtain ⟨g7, hm⟩ := gd_e hm
    obtain ⟨g8, hm⟩ := gd_e hm
    obtain ⟨S9, e_S9, hm⟩ := lt_e hm
    refine zh_putR o g7 g8 fl_J6_36_14 rfl rfl dJ6_unlink_32 e_S9 ?_
    refine zQ.s (fun h => zs_aload_n (i := 1) o dJ6_unlink_35 rfl rfl) ?_
    refine zQ.s (fun h => zs_nul o dJ6_unlink_36) ?_
    obtain ⟨g10, hm⟩ := gd_e hm
    obtain ⟨g11, hm⟩ := gd_e hm
    obtain ⟨S12, e_S12, hm⟩ := lt_e hm
    refine zh_putR o g10 g11 fl_J6_30_14 rfl rfl dJ6_unlink_37 e_S12 ?_
    exact hj40 _ _ _ _ _ _ _ _ (by omega) (by omega) hm
  · have hm := if_e1 hm c
    refine zQ.s (fun h => zs_aload_n (i := 0) o dJ6_unlink_21 rfl rfl) ?_
    refine zQ.s (fun h => zs_aload_n (i := 3) o dJ6_unlink_22 rfl rfl) ?_
    obtain ⟨g13, hm⟩ := gd_e hm
    obtain ⟨g14, hm⟩ := gd_e hm
    obtain ⟨S15, e_S15, hm⟩ := lt_e hm
    refine zh_putR o g13 g14 fl_J6_18_13 rfl rfl dJ6_unlink_23 e_S15 ?_
    refine zQ.s (fun h => zs_goto (tgt := 40) o dJ6_unlink_26 (by decide)) ?_
    exact hj40 _ _ _ _ _ _ _ _ (by omega) (by omega) hm

def j_J6_unlinkFirst_j42 (h : zH) (x0 : Nat) (x2 : Nat) : Option (zH × Nat) :=
  gd (kd h x0 13) <|
  gd (kd h x0 13) <|
  gd (wr h x0) <|
  lt (pI h 13 1 x0 ((hI h 13 1 x0) - (1 : Int32))) fun S4 =>
  gd (kd S4 x0 13) <|
  gd (kd S4 x0 13) <|
  gd (wr S4 x0) <|
  lt (pI S4 13 0 x0 ((hI S4 13 0 x0) + (1 : Int32))) fun S8 =>
  some (S8, x2)
def j_J6_unlinkFirst (h : zH) (p : Nat) (a1 : Nat) : Option (zH × Nat) :=
  gd (kd h a1 14) <|
  lt (hR h 14 0 a1) fun r2 =>
  gd (kd h a1 14) <|
  lt (hR h 14 1 a1) fun r4 =>
  gd (kd h a1 14) <|
  gd (wr h a1) <|
  lt (pR h 14 0 a1 0) fun S7 =>
  gd (kd S7 a1 14) <|
  gd (wr S7 a1) <|
  lt (pR S7 14 1 a1 0) fun S10 =>
  gd (kd S10 p 13) <|
  gd (wr S10 p) <|
  lt (pR S10 13 2 p r4) fun S13 =>
  if r4 = 0 then
    gd (kd S13 p 13) <|
    gd (wr S13 p) <|
    lt (pR S13 13 3 p 0) fun S19 =>
    j_J6_unlinkFirst_j42 S19 p r2
  else
    gd (kd S13 r4 14) <|
    gd (wr S13 r4) <|
    lt (pR S13 14 2 r4 0) fun S16 =>
    j_J6_unlinkFirst_j42 S16 p r2

set_option maxHeartbeats 40000000 in
theorem J_J6_unlinkFirst (G : zG) (h : zH) (p : Nat) (a1 : Nat) (V : Nat) (h9 : zH) (hm : j_J6_unlinkFirst h p a1 = some (h9, V)) : zJr G yJ6_unlinkFirst cJ6_unlinkFirst 4 (some (.object "java/lang/Object")) 0 0 0 [zrf p, zrf a1] h V h9 := by
  refine zCo.st [some (zrf p), some (zrf a1), none, none] rfl rfl (by simp only [zarg_r, zarg_i, zarg_l, zarg_0]; rfl) (fun X o f0 hin hw0 => ?_)
  have f := f0.e
  have hin : (Xt X).name = "unlinkFirst" := hin
  refine (?_ : zQ (EH h) G X 0 0 0 [some (zrf p), some (zrf a1), none, none] []) h rfl hw0
  clear hw0
  generalize hR9 : ((h9, V) : (zH × Nat)) = R at hm
  have hj42 : ∀ (h : zH) (x0 : Nat) (x2 : Nat) (cl sl : Nat), cl + (0) ≤ 0 → sl + (0) ≤ 0 → j_J6_unlinkFirst_j42 h x0 x2 = some R → zQ (EH h) G X cl sl 42 [some (zrf x0), none, some (zrf x2), none] [] := by
    intro h x0 x2 cl sl hc hs hm
    unfold j_J6_unlinkFirst_j42 at hm
    refine zQ.s (fun h => zs_aload_n (i := 0) o dJ6_unlinkFirst_42 rfl rfl) ?_
    refine zQ.s (fun h => zs_dup o dJ6_unlinkFirst_43 (by first | rfl | exact zrf_cat _)) ?_
    obtain ⟨g1, hm⟩ := gd_e hm
    refine zh_getI o g1 fl_J6_7_13 rfl dJ6_unlinkFirst_44 ?_
    refine zQ.s (fun h => zs_iconst (v := 1) o dJ6_unlinkFirst_47 (by decide)) ?_
    refine zQ.s (fun h => zs_isub o dJ6_unlinkFirst_48) ?_
    obtain ⟨g2, hm⟩ := gd_e hm
    obtain ⟨g3, hm⟩ := gd_e hm
    obtain ⟨S4, e_S4, hm⟩ := lt_e hm
    refine zh_putI o g2 g3 fl_J6_7_13 rfl rfl ⟨rfl, rfl⟩ dJ6_unlinkFirst_49 e_S4 ?_
    refine zQ.s (fun h => zs_aload_n (i := 0) o dJ6_unlinkFirst_52 rfl rfl) ?_
    refine zQ.s (fun h => zs_dup o dJ6_unlinkFirst_53 (by first | rfl | exact zrf_cat _)) ?_
    obtain ⟨g5, hm⟩ := gd_e hm
    refine zh_getI o g5 fl_J6_33_13 rfl dJ6_unlinkFirst_54 ?_
    refine zQ.s (fun h => zs_iconst (v := 1) o dJ6_unlinkFirst_57 (by decide)) ?_
    refine zQ.s (fun h => zs_iadd o dJ6_unlinkFirst_58) ?_
    obtain ⟨g6, hm⟩ := gd_e hm
    obtain ⟨g7, hm⟩ := gd_e hm
    obtain ⟨S8, e_S8, hm⟩ := lt_e hm
    refine zh_putI o g6 g7 fl_J6_33_13 rfl rfl ⟨rfl, rfl⟩ dJ6_unlinkFirst_59 e_S8 ?_
    refine zQ.s (fun h => zs_aload_n (i := 2) o dJ6_unlinkFirst_62 rfl rfl) ?_
    refine zh_retr o f dJ6_unlinkFirst_63 rfl (by omega) (by omega) ((so_e hm).trans hR9.symm)
  unfold j_J6_unlinkFirst at hm
  refine zQ.s (fun h => zs_aload_n (i := 1) o dJ6_unlinkFirst_0 rfl rfl) ?_
  obtain ⟨g1, hm⟩ := gd_e hm
  refine zh_getR o g1 fl_J6_39_14 rfl dJ6_unlinkFirst_1 ?_
  obtain ⟨r2, e_r2, hm⟩ := lt_e hm
  refine zQ.nmr e_r2 ?_
  refine zQ.s (fun h => zs_astore_n (i := 2) o dJ6_unlinkFirst_4 rfl (by decide) (Or.inr (zc2_ref rfl)) (by simp only [List.set_cons_succ, List.set_cons_zero]; rfl)) ?_
  refine zQ.s (fun h => zs_aload_n (i := 1) o dJ6_unlinkFirst_5 rfl rfl) ?_
  obtain ⟨g3, hm⟩ := gd_e hm
  refine zh_getR o g3 fl_J6_36_14 rfl dJ6_unlinkFirst_6 ?_
  obtain ⟨r4, e_r4, hm⟩ := lt_e hm
  refine zQ.nmr e_r4 ?_
  refine zQ.s (fun h => zs_astore_n (i := 3) o dJ6_unlinkFirst_9 rfl (by decide) (Or.inr (zc2_ref rfl)) (by simp only [List.set_cons_succ, List.set_cons_zero]; rfl)) ?_
  refine zQ.s (fun h => zs_aload_n (i := 1) o dJ6_unlinkFirst_10 rfl rfl) ?_
  refine zQ.s (fun h => zs_nul o dJ6_unlinkFirst_11) ?_
  obtain ⟨g5, hm⟩ := gd_e hm
  obtain ⟨g6, hm⟩ := gd_e hm
  obtain ⟨S7, e_S7, hm⟩ := lt_e hm
  refine zh_putR o g5 g6 fl_J6_39_14 rfl rfl dJ6_unlinkFirst_12 e_S7 ?_
  refine zQ.s (fun h => zs_aload_n (i := 1) o dJ6_unlinkFirst_15 rfl rfl) ?_
  refine zQ.s (fun h => zs_nul o dJ6_unlinkFirst_16) ?_
  obtain ⟨g8, hm⟩ := gd_e hm
  obtain ⟨g9, hm⟩ := gd_e hm
  obtain ⟨S10, e_S10, hm⟩ := lt_e hm
  refine zh_putR o g8 g9 fl_J6_36_14 rfl rfl dJ6_unlinkFirst_17 e_S10 ?_
  refine zQ.s (fun h => zs_aload_n (i := 0) o dJ6_unlinkFirst_20 rfl rfl) ?_
  refine zQ.s (fun h => zs_aload_n (i := 3) o dJ6_unlinkFirst_21 rfl rfl) ?_
  obtain ⟨g11, hm⟩ := gd_e hm
  obtain ⟨g12, hm⟩ := gd_e hm
  obtain ⟨S13, e_S13, hm⟩ := lt_e hm
  refine zh_putR o g11 g12 fl_J6_18_13 rfl rfl dJ6_unlinkFirst_22 e_S13 ?_
  refine zQ.s (fun h => zs_aload_n (i := 3) o dJ6_unlinkFirst_25 rfl rfl) ?_
  refine zQ.b (fun h => zs_ifnonnull (tgt := 37) o dJ6_unlinkFirst_26 (by decide)) (fun c => ?_) (fun c => ?_)
  · have hm := if_e2 hm c
    refine zQ.s (fun h => zs_aload_n (i := 3) o dJ6_unlinkFirst_37 rfl rfl) ?_
    refine zQ.s (fun h => zs_nul o dJ6_unlinkFirst_38) ?_
    obtain ⟨g14, hm⟩ := gd_e hm
    obtain ⟨g15, hm⟩ := gd_e hm
    obtain ⟨S16, e_S16, hm⟩ := lt_e hm
    refine zh_putR o g14 g15 fl_J6_30_14 rfl rfl dJ6_unlinkFirst_39 e_S16 ?_
    refine zQ.fg (zl_s (zl_n (zl_s (zl_n zl_0)))) ?_
    exact hj42 _ _ _ _ _ (by omega) (by omega) hm
  · have hm := if_e1 hm c
    refine zQ.s (fun h => zs_aload_n (i := 0) o dJ6_unlinkFirst_29 rfl rfl) ?_
    refine zQ.s (fun h => zs_nul o dJ6_unlinkFirst_30) ?_
    obtain ⟨g17, hm⟩ := gd_e hm
    obtain ⟨g18, hm⟩ := gd_e hm
    obtain ⟨S19, e_S19, hm⟩ := lt_e hm
    refine zh_putR o g17 g18 fl_J6_27_13 rfl rfl dJ6_unlinkFirst_31 e_S19 ?_
    refine zQ.s (fun h => zs_goto (tgt := 42) o dJ6_unlinkFirst_34 (by decide)) ?_
    refine zQ.fg (zl_s (zl_n (zl_s (zl_n zl_0)))) ?_
    exact hj42 _ _ _ _ _ (by omega) (by omega) hm

def j_J6_getFirst (h : zH) (p : Nat) : Option (zH × Nat) :=
  gd (kd h p 13) <|
  lt (hR h 13 2 p) fun r2 =>
  if r2 = 0 then
    none
  else
    gd (kd h r2 14) <|
    some (h, hR h 14 0 r2)

set_option maxHeartbeats 40000000 in
theorem J_J6_getFirst (G : zG) (h : zH) (p : Nat) (V : Nat) (h9 : zH) (hm : j_J6_getFirst h p = some (h9, V)) : zJr G yJ6_getFirst cJ6_getFirst 2 (some (.object "java/lang/Object")) 0 0 0 [zrf p] h V h9 := by
  refine zCo.st [some (zrf p), none] rfl rfl (by simp only [zarg_r, zarg_i, zarg_l, zarg_0]; rfl) (fun X o f0 hin hw0 => ?_)
  have f := f0.e
  have hin : (Xt X).name = "getFirst" := hin
  refine (?_ : zQ (EH h) G X 0 0 0 [some (zrf p), none] []) h rfl hw0
  clear hw0
  generalize hR9 : ((h9, V) : (zH × Nat)) = R at hm
  unfold j_J6_getFirst at hm
  refine zQ.s (fun h => zs_aload_n (i := 0) o dJ6_getFirst_0 rfl rfl) ?_
  obtain ⟨g1, hm⟩ := gd_e hm
  refine zh_getR o g1 fl_J6_18_13 rfl dJ6_getFirst_1 ?_
  obtain ⟨r2, e_r2, hm⟩ := lt_e hm
  refine zQ.nmr e_r2 ?_
  refine zQ.s (fun h => zs_astore_n (i := 1) o dJ6_getFirst_4 rfl (by decide) (Or.inr (zc2_ref rfl)) (by simp only [List.set_cons_succ, List.set_cons_zero]; rfl)) ?_
  refine zQ.s (fun h => zs_aload_n (i := 1) o dJ6_getFirst_5 rfl rfl) ?_
  refine zQ.b (fun h => zs_ifnonnull (tgt := 17) o dJ6_getFirst_6 (by decide)) (fun c => ?_) (fun c => ?_)
  · have hm := if_e2 hm c
    refine zQ.s (fun h => zs_aload_n (i := 1) o dJ6_getFirst_17 rfl rfl) ?_
    obtain ⟨g3, hm⟩ := gd_e hm
    refine zh_getR o g3 fl_J6_39_14 rfl dJ6_getFirst_18 ?_
    refine zh_retr o f dJ6_getFirst_21 rfl (by omega) (by omega) ((so_e hm).trans hR9.symm)
  · have hm := if_e1 hm c
    exact no_e hm

def j_J6_removeFirst (h : zH) (p : Nat) : Option (zH × Nat) :=
  gd (kd h p 13) <|
  lt (hR h 13 2 p) fun r2 =>
  if r2 = 0 then
    none
  else
    gd (kd h p 13) <|
    bd (j_J6_unlinkFirst h p r2) fun y4 =>
    some (y4.1, y4.2)

set_option maxHeartbeats 40000000 in
theorem J_J6_removeFirst (G : zG) (h : zH) (p : Nat) (V : Nat) (h9 : zH) (hm : j_J6_removeFirst h p = some (h9, V)) : zJr G yJ6_removeFirst cJ6_removeFirst 2 (some (.object "java/lang/Object")) 1 0 0 [zrf p] h V h9 := by
  refine zCo.st [some (zrf p), none] rfl rfl (by simp only [zarg_r, zarg_i, zarg_l, zarg_0]; rfl) (fun X o f0 hin hw0 => ?_)
  have f := f0.e
  have hin : (Xt X).name = "removeFirst" := hin
  refine (?_ : zQ (EH h) G X 0 0 0 [some (zrf p), none] []) h rfl hw0
  clear hw0
  generalize hR9 : ((h9, V) : (zH × Nat)) = R at hm
  unfold j_J6_removeFirst at hm
  refine zQ.s (fun h => zs_aload_n (i := 0) o dJ6_removeFirst_0 rfl rfl) ?_
  obtain ⟨g1, hm⟩ := gd_e hm
  refine zh_getR o g1 fl_J6_18_13 rfl dJ6_removeFirst_1 ?_
  obtain ⟨r2, e_r2, hm⟩ := lt_e hm
  refine zQ.nmr e_r2 ?_
  refine zQ.s (fun h => zs_astore_n (i := 1) o dJ6_removeFirst_4 rfl (by decide) (Or.inr (zc2_ref rfl)) (by simp only [List.set_cons_succ, List.set_cons_zero]; rfl)) ?_
  refine zQ.s (fun h => zs_aload_n (i := 1) o dJ6_removeFirst_5 rfl rfl) ?_
  refine zQ.b (fun h => zs_ifnonnull (tgt := 17) o dJ6_removeFirst_6 (by decide)) (fun c => ?_) (fun c => ?_)
  · have hm := if_e2 hm c
    refine zQ.s (fun h => zs_aload_n (i := 0) o dJ6_removeFirst_17 rfl rfl) ?_
    refine zQ.s (fun h => zs_aload_n (i := 1) o dJ6_removeFirst_18 rfl rfl) ?_
    obtain ⟨g3, hm⟩ := gd_e hm
    obtain ⟨y4, c_y4, hm⟩ := bd_e hm
    refine zh_Vr o g3 ml_J6_46 (J_J6_unlinkFirst G _ _ _ _ _  c_y4) dJ6_removeFirst_19 rfl rfl rfl rfl (by omega) (by omega) ?_
    refine zh_retr o f dJ6_removeFirst_22 rfl (by omega) (by omega) ((so_e hm).trans hR9.symm)
  · have hm := if_e1 hm c
    exact no_e hm

def j_J28_init_j38 (h : zH) (x0 : Nat) (x2 : Int32) (s1 : Nat) (s0 : Nat) : Option zH :=
  gd (kd h s0 16) <|
  gd (wr h s0) <|
  lt (pR h 16 1 s0 s1) fun S3 =>
  gd (kd S3 x0 16) <|
  gd (wr S3 x0) <|
  lt (pI S3 16 2 x0 x2) fun S6 =>
  some S6
def j_J28_init (h : zH) (p : Nat) (a1 : Nat) (a2 : Int32) : Option zH :=
  gd (kd h p 16) <|
  gd (wr h p) <|
  lt (pR h 16 4 p a1) fun S3 =>
  gd (nzr p) <|
  gd (kd S3 p 16) <|
  gd (kd S3 (hR S3 16 4 p) 13) <|
  gd (kd S3 p 16) <|
  gd (wr S3 p) <|
  lt (pI S3 16 3 p (hI S3 13 0 (hR S3 16 4 p))) fun S9 =>
  gd (kd S9 a1 13) <|
  if a2 = (hI S9 13 1 a1) then
    j_J28_init_j38 S9 p a2 0 p
  else
    gd (kd S9 a1 13) <|
    bd (j_J6_node S9 a1 a2) fun y12 =>
    j_J28_init_j38 y12.1 p a2 y12.2 p

set_option maxHeartbeats 40000000 in
theorem J_J28_init (G : zG) (h : zH) (p : Nat) (a1 : Nat) (a2 : Int32) (h9 : zH) (hm : j_J28_init h p a1 a2 = some h9) : zJv G yJ28_init cJ28_init 3 none 1 0 0 [zrf p, zrf a1, .int a2] h h9 := by
  refine zCo.st [some (zrf p), some (zrf a1), some (.int a2)] rfl rfl (by simp only [zarg_r, zarg_i, zarg_l, zarg_0]; rfl) (fun X o f0 hin hw0 => ?_)
  have f := f0.e
  have hin : (Xt X).name = "<init>" := hin
  refine (?_ : zQ (EH h) G X 0 0 0 [some (zrf p), some (zrf a1), some (.int a2)] []) h rfl hw0
  clear hw0
  generalize hR9 : (h9 : zH) = R at hm
  have hj38 : ∀ (h : zH) (x0 : Nat) (x2 : Int32) (s1 : Nat) (s0 : Nat) (cl sl : Nat), cl + (0) ≤ 0 → sl + (0) ≤ 0 → j_J28_init_j38 h x0 x2 s1 s0 = some R → zQ (EH h) G X cl sl 38 [some (zrf x0), none, some (.int x2)] [zrf s1, zrf s0] := by
    intro h x0 x2 s1 s0 cl sl hc hs hm
    unfold j_J28_init_j38 at hm
    obtain ⟨g1, hm⟩ := gd_e hm
    obtain ⟨g2, hm⟩ := gd_e hm
    obtain ⟨S3, e_S3, hm⟩ := lt_e hm
    refine zh_putR o g1 g2 fl_J28_29_16 rfl rfl dJ28_init_38 e_S3 ?_
    refine zQ.s (fun h => zs_aload_n (i := 0) o dJ28_init_41 rfl rfl) ?_
    refine zQ.s (fun h => zs_iload_n (i := 2) o dJ28_init_42 rfl rfl) ?_
    obtain ⟨g4, hm⟩ := gd_e hm
    obtain ⟨g5, hm⟩ := gd_e hm
    obtain ⟨S6, e_S6, hm⟩ := lt_e hm
    refine zh_putI o g4 g5 fl_J28_33_16 rfl rfl ⟨rfl, rfl⟩ dJ28_init_43 e_S6 ?_
    refine zh_retv o f dJ28_init_46 (by omega) (by omega) ((so_e hm).trans hR9.symm)
  unfold j_J28_init at hm
  refine zQ.s (fun h => zs_aload_n (i := 0) o dJ28_init_0 rfl rfl) ?_
  refine zQ.s (fun h => zs_aload_n (i := 1) o dJ28_init_1 rfl rfl) ?_
  obtain ⟨g1, hm⟩ := gd_e hm
  obtain ⟨g2, hm⟩ := gd_e hm
  obtain ⟨S3, e_S3, hm⟩ := lt_e hm
  refine zh_putRF o hin g1 g2 fl_J28_1_16 rfl ⟨rfl, rfl⟩ dJ28_init_2 e_S3 ?_
  refine zQ.s (fun h => zs_aload_n (i := 0) o dJ28_init_5 rfl rfl) ?_
  obtain ⟨g4, hm⟩ := gd_e hm
  refine zh_objInit o g4 q1099 q163 q164 dJ28_init_6 rfl rfl ?_
  refine zQ.s (fun h => zs_aload_n (i := 0) o dJ28_init_9 rfl rfl) ?_
  refine zQ.s (fun h => zs_aload_n (i := 0) o dJ28_init_10 rfl rfl) ?_
  obtain ⟨g5, hm⟩ := gd_e hm
  refine zh_getR o g5 fl_J28_1_16 rfl dJ28_init_11 ?_
  obtain ⟨g6, hm⟩ := gd_e hm
  refine zh_getI o g6 fl_J28_13_13 rfl dJ28_init_14 ?_
  obtain ⟨g7, hm⟩ := gd_e hm
  obtain ⟨g8, hm⟩ := gd_e hm
  obtain ⟨S9, e_S9, hm⟩ := lt_e hm
  refine zh_putI o g7 g8 fl_J28_19_16 rfl rfl ⟨rfl, rfl⟩ dJ28_init_17 e_S9 ?_
  refine zQ.s (fun h => zs_aload_n (i := 0) o dJ28_init_20 rfl rfl) ?_
  refine zQ.s (fun h => zs_iload_n (i := 2) o dJ28_init_21 rfl rfl) ?_
  refine zQ.s (fun h => zs_aload_n (i := 1) o dJ28_init_22 rfl rfl) ?_
  obtain ⟨g10, hm⟩ := gd_e hm
  refine zh_getI o g10 fl_J28_22_13 rfl dJ28_init_23 ?_
  refine zQ.b (fun h => zs_icmp_ne (tgt := 33) o dJ28_init_26 (by decide)) (fun c => ?_) (fun c => ?_)
  · have hm := if_e2 hm c
    refine zQ.s (fun h => zs_aload_n (i := 1) o dJ28_init_33 rfl rfl) ?_
    refine zQ.s (fun h => zs_iload_n (i := 2) o dJ28_init_34 rfl rfl) ?_
    obtain ⟨g11, hm⟩ := gd_e hm
    obtain ⟨y12, c_y12, hm⟩ := bd_e hm
    refine zh_Vr o g11 ml_J28_25 (J_J6_node G _ _ _ _ _  c_y12) dJ28_init_35 rfl rfl rfl rfl (by omega) (by omega) ?_
    refine zQ.fg (zl_s (zl_n (zl_s zl_0))) ?_
    exact hj38 _ _ _ _ _ _ _ (by omega) (by omega) hm
  · have hm := if_e1 hm c
    refine zQ.s (fun h => zs_nul o dJ28_init_29) ?_
    refine zQ.s (fun h => zs_goto (tgt := 38) o dJ28_init_30 (by decide)) ?_
    refine zQ.fg (zl_s (zl_n (zl_s zl_0))) ?_
    exact hj38 _ _ _ _ _ _ _ (by omega) (by omega) hm

def j_J28_hasPrevious_j12 (h : zH) (s0 : Int32) : Option (zH × Int32) :=
  gd (b01 s0) <|
  some (h, s0)
def j_J28_hasPrevious (h : zH) (p : Nat) : Option (zH × Int32) :=
  gd (kd h p 16) <|
  if (hI h 16 2 p) ≤ (0 : Int32) then
    j_J28_hasPrevious_j12 h (0 : Int32)
  else
    j_J28_hasPrevious_j12 h (1 : Int32)

set_option maxHeartbeats 40000000 in
theorem J_J28_hasPrevious (G : zG) (h : zH) (p : Nat) (V : Int32) (h9 : zH) (hm : j_J28_hasPrevious h p = some (h9, V)) : zJi G yJ28_hasPrevious cJ28_hasPrevious 1 (some .boolean) 0 0 0 [zrf p] h V h9 := by
  refine zCo.st [some (zrf p)] rfl rfl (by simp only [zarg_r, zarg_i, zarg_l, zarg_0]; rfl) (fun X o f0 hin hw0 => ?_)
  have f := f0.e
  have hin : (Xt X).name = "hasPrevious" := hin
  refine (?_ : zQ (EH h) G X 0 0 0 [some (zrf p)] []) h rfl hw0
  clear hw0
  generalize hR9 : ((h9, V) : (zH × Int32)) = R at hm
  have hj12 : ∀ (h : zH) (s0 : Int32) (cl sl : Nat), cl + (0) ≤ 0 → sl + (0) ≤ 0 → j_J28_hasPrevious_j12 h s0 = some R → zQ (EH h) G X cl sl 12 [none] [.int s0] := by
    intro h s0 cl sl hc hs hm
    unfold j_J28_hasPrevious_j12 at hm
    obtain ⟨g1, hm⟩ := gd_e hm
    refine zh_reti o f dJ28_hasPrevious_12 (b01_e g1).1 (by omega) (by omega) ((so_e hm).trans hR9.symm)
  unfold j_J28_hasPrevious at hm
  refine zQ.s (fun h => zs_aload_n (i := 0) o dJ28_hasPrevious_0 rfl rfl) ?_
  obtain ⟨g1, hm⟩ := gd_e hm
  refine zh_getI o g1 fl_J28_33_16 rfl dJ28_hasPrevious_1 ?_
  refine zQ.b (fun h => zs_if_le (tgt := 11) o dJ28_hasPrevious_4 (by decide)) (fun c => ?_) (fun c => ?_)
  · have hm := if_e1 hm c
    refine zQ.s (fun h => zs_iconst (v := 0) o dJ28_hasPrevious_11 (by decide)) ?_
    refine zQ.fg (zl_n zl_0) ?_
    exact hj12 _ _ _ _ (by omega) (by omega) hm
  · have hm := if_e2 hm c
    refine zQ.s (fun h => zs_iconst (v := 1) o dJ28_hasPrevious_7 (by decide)) ?_
    refine zQ.s (fun h => zs_goto (tgt := 12) o dJ28_hasPrevious_8 (by decide)) ?_
    refine zQ.fg (zl_n zl_0) ?_
    exact hj12 _ _ _ _ (by omega) (by omega) hm

def j_J28_hasNext_j19 (h : zH) (s0 : Int32) : Option (zH × Int32) :=
  gd (b01 s0) <|
  some (h, s0)
def j_J28_hasNext (h : zH) (p : Nat) : Option (zH × Int32) :=
  gd (kd h p 16) <|
  gd (kd h p 16) <|
  gd (kd h (hR h 16 4 p) 13) <|
  if (hI h 13 1 (hR h 16 4 p)) ≤ (hI h 16 2 p) then
    j_J28_hasNext_j19 h (0 : Int32)
  else
    j_J28_hasNext_j19 h (1 : Int32)

set_option maxHeartbeats 40000000 in
theorem J_J28_hasNext (G : zG) (h : zH) (p : Nat) (V : Int32) (h9 : zH) (hm : j_J28_hasNext h p = some (h9, V)) : zJi G yJ28_hasNext cJ28_hasNext 1 (some .boolean) 0 0 0 [zrf p] h V h9 := by
  refine zCo.st [some (zrf p)] rfl rfl (by simp only [zarg_r, zarg_i, zarg_l, zarg_0]; rfl) (fun X o f0 hin hw0 => ?_)
  have f := f0.e
  have hin : (Xt X).name = "hasNext" := hin
  refine (?_ : zQ (EH h) G X 0 0 0 [some (zrf p)] []) h rfl hw0
  clear hw0
  generalize hR9 : ((h9, V) : (zH × Int32)) = R at hm
  have hj19 : ∀ (h : zH) (s0 : Int32) (cl sl : Nat), cl + (0) ≤ 0 → sl + (0) ≤ 0 → j_J28_hasNext_j19 h s0 = some R → zQ (EH h) G X cl sl 19 [none] [.int s0] := by
    intro h s0 cl sl hc hs hm
    unfold j_J28_hasNext_j19 at hm
    obtain ⟨g1, hm⟩ := gd_e hm
    refine zh_reti o f dJ28_hasNext_19 (b01_e g1).1 (by omega) (by omega) ((so_e hm).trans hR9.symm)
  unfold j_J28_hasNext at hm
  refine zQ.s (fun h => zs_aload_n (i := 0) o dJ28_hasNext_0 rfl rfl) ?_
  obtain ⟨g1, hm⟩ := gd_e hm
  refine zh_getI o g1 fl_J28_33_16 rfl dJ28_hasNext_1 ?_
  refine zQ.s (fun h => zs_aload_n (i := 0) o dJ28_hasNext_4 rfl rfl) ?_
  obtain ⟨g2, hm⟩ := gd_e hm
  refine zh_getR o g2 fl_J28_1_16 rfl dJ28_hasNext_5 ?_
  obtain ⟨g3, hm⟩ := gd_e hm
  refine zh_getI o g3 fl_J28_22_13 rfl dJ28_hasNext_8 ?_
  refine zQ.b (fun h => zs_icmp_ge (tgt := 18) o dJ28_hasNext_11 (by decide)) (fun c => ?_) (fun c => ?_)
  · have hm := if_e1 hm c
    refine zQ.s (fun h => zs_iconst (v := 0) o dJ28_hasNext_18 (by decide)) ?_
    refine zQ.fg (zl_n zl_0) ?_
    exact hj19 _ _ _ _ (by omega) (by omega) hm
  · have hm := if_e2 hm c
    refine zQ.s (fun h => zs_iconst (v := 1) o dJ28_hasNext_14 (by decide)) ?_
    refine zQ.s (fun h => zs_goto (tgt := 19) o dJ28_hasNext_15 (by decide)) ?_
    refine zQ.fg (zl_n zl_0) ?_
    exact hj19 _ _ _ _ (by omega) (by omega) hm

def j_J28_checkForComodification (h : zH) (p : Nat) : Option zH :=
  gd (kd h p 16) <|
  gd (kd h (hR h 16 4 p) 13) <|
  gd (kd h p 16) <|
  if (hI h 13 0 (hR h 16 4 p)) = (hI h 16 3 p) then
    some h
  else
    none

set_option maxHeartbeats 40000000 in
theorem J_J28_checkForComodification (G : zG) (h : zH) (p : Nat) (h9 : zH) (hm : j_J28_checkForComodification h p = some h9) : zJv G yJ28_checkForComodification cJ28_checkForComodification 1 none 0 0 0 [zrf p] h h9 := by
  refine zCo.st [some (zrf p)] rfl rfl (by simp only [zarg_r, zarg_i, zarg_l, zarg_0]; rfl) (fun X o f0 hin hw0 => ?_)
  have f := f0.e
  have hin : (Xt X).name = "checkForComodification" := hin
  refine (?_ : zQ (EH h) G X 0 0 0 [some (zrf p)] []) h rfl hw0
  clear hw0
  generalize hR9 : (h9 : zH) = R at hm
  unfold j_J28_checkForComodification at hm
  refine zQ.s (fun h => zs_aload_n (i := 0) o dJ28_checkForComodification_0 rfl rfl) ?_
  obtain ⟨g1, hm⟩ := gd_e hm
  refine zh_getR o g1 fl_J28_1_16 rfl dJ28_checkForComodification_1 ?_
  obtain ⟨g2, hm⟩ := gd_e hm
  refine zh_getI o g2 fl_J28_13_13 rfl dJ28_checkForComodification_4 ?_
  refine zQ.s (fun h => zs_aload_n (i := 0) o dJ28_checkForComodification_7 rfl rfl) ?_
  obtain ⟨g3, hm⟩ := gd_e hm
  refine zh_getI o g3 fl_J28_19_16 rfl dJ28_checkForComodification_8 ?_
  refine zQ.b (fun h => zs_icmp_eq (tgt := 22) o dJ28_checkForComodification_11 (by decide)) (fun c => ?_) (fun c => ?_)
  · have hm := if_e1 hm c
    refine zh_retv o f dJ28_checkForComodification_22 (by omega) (by omega) ((so_e hm).trans hR9.symm)
  · have hm := if_e2 hm c
    exact no_e hm

def j_J28_next (h : zH) (p : Nat) : Option (zH × Nat) :=
  gd (kd h p 16) <|
  bd (j_J28_checkForComodification h p) fun y2 =>
  gd (kd y2 p 16) <|
  bd (j_J28_hasNext y2 p) fun y4 =>
  if y4.2 = (0 : Int32) then
    none
  else
    gd (kd y4.1 p 16) <|
    gd (kd y4.1 p 16) <|
    gd (wr y4.1 p) <|
    lt (pR y4.1 16 0 p (hR y4.1 16 1 p)) fun S8 =>
    gd (kd S8 p 16) <|
    gd (kd S8 (hR S8 16 1 p) 14) <|
    gd (kd S8 p 16) <|
    gd (wr S8 p) <|
    lt (pR S8 16 1 p (hR S8 14 1 (hR S8 16 1 p))) fun S13 =>
    gd (kd S13 p 16) <|
    gd (kd S13 p 16) <|
    gd (wr S13 p) <|
    lt (pI S13 16 2 p ((hI S13 16 2 p) + (1 : Int32))) fun S17 =>
    gd (kd S17 p 16) <|
    gd (kd S17 (hR S17 16 0 p) 14) <|
    some (S17, hR S17 14 0 (hR S17 16 0 p))

set_option maxHeartbeats 40000000 in
theorem J_J28_next (G : zG) (h : zH) (p : Nat) (V : Nat) (h9 : zH) (hm : j_J28_next h p = some (h9, V)) : zJr G yJ28_next cJ28_next 1 (some (.object "java/lang/Object")) 1 0 0 [zrf p] h V h9 := by
  refine zCo.st [some (zrf p)] rfl rfl (by simp only [zarg_r, zarg_i, zarg_l, zarg_0]; rfl) (fun X o f0 hin hw0 => ?_)
  have f := f0.e
  have hin : (Xt X).name = "next" := hin
  refine (?_ : zQ (EH h) G X 0 0 0 [some (zrf p)] []) h rfl hw0
  clear hw0
  generalize hR9 : ((h9, V) : (zH × Nat)) = R at hm
  unfold j_J28_next at hm
  refine zQ.s (fun h => zs_aload_n (i := 0) o dJ28_next_0 rfl rfl) ?_
  obtain ⟨g1, hm⟩ := gd_e hm
  obtain ⟨y2, c_y2, hm⟩ := bd_e hm
  refine zh_Vv o g1 ml_J28_36 (J_J28_checkForComodification G _ _ _  c_y2) dJ28_next_1 rfl rfl rfl rfl (by omega) (by omega) ?_
  refine zQ.s (fun h => zs_aload_n (i := 0) o dJ28_next_4 rfl rfl) ?_
  obtain ⟨g3, hm⟩ := gd_e hm
  obtain ⟨y4, c_y4, hm⟩ := bd_e hm
  refine zh_Vi o g3 ml_J28_39 (J_J28_hasNext G _ _ _ _  c_y4) dJ28_next_5 rfl rfl rfl rfl (by omega) (by omega) ?_
  refine zQ.b (fun h => zs_if_ne (tgt := 19) o dJ28_next_8 (by decide)) (fun c => ?_) (fun c => ?_)
  · have hm := if_e2 hm c
    refine zQ.s (fun h => zs_aload_n (i := 0) o dJ28_next_19 rfl rfl) ?_
    refine zQ.s (fun h => zs_aload_n (i := 0) o dJ28_next_20 rfl rfl) ?_
    obtain ⟨g5, hm⟩ := gd_e hm
    refine zh_getR o g5 fl_J28_29_16 rfl dJ28_next_21 ?_
    obtain ⟨g6, hm⟩ := gd_e hm
    obtain ⟨g7, hm⟩ := gd_e hm
    obtain ⟨S8, e_S8, hm⟩ := lt_e hm
    refine zh_putR o g6 g7 fl_J28_46_16 rfl rfl dJ28_next_24 e_S8 ?_
    refine zQ.s (fun h => zs_aload_n (i := 0) o dJ28_next_27 rfl rfl) ?_
    refine zQ.s (fun h => zs_aload_n (i := 0) o dJ28_next_28 rfl rfl) ?_
    obtain ⟨g9, hm⟩ := gd_e hm
    refine zh_getR o g9 fl_J28_29_16 rfl dJ28_next_29 ?_
    obtain ⟨g10, hm⟩ := gd_e hm
    refine zh_getR o g10 fl_J28_49_14 rfl dJ28_next_32 ?_
    obtain ⟨g11, hm⟩ := gd_e hm
    obtain ⟨g12, hm⟩ := gd_e hm
    obtain ⟨S13, e_S13, hm⟩ := lt_e hm
    refine zh_putR o g11 g12 fl_J28_29_16 rfl rfl dJ28_next_35 e_S13 ?_
    refine zQ.s (fun h => zs_aload_n (i := 0) o dJ28_next_38 rfl rfl) ?_
    refine zQ.s (fun h => zs_dup o dJ28_next_39 (by first | rfl | exact zrf_cat _)) ?_
    obtain ⟨g14, hm⟩ := gd_e hm
    refine zh_getI o g14 fl_J28_33_16 rfl dJ28_next_40 ?_
    refine zQ.s (fun h => zs_iconst (v := 1) o dJ28_next_43 (by decide)) ?_
    refine zQ.s (fun h => zs_iadd o dJ28_next_44) ?_
    obtain ⟨g15, hm⟩ := gd_e hm
    obtain ⟨g16, hm⟩ := gd_e hm
    obtain ⟨S17, e_S17, hm⟩ := lt_e hm
    refine zh_putI o g15 g16 fl_J28_33_16 rfl rfl ⟨rfl, rfl⟩ dJ28_next_45 e_S17 ?_
    refine zQ.s (fun h => zs_aload_n (i := 0) o dJ28_next_48 rfl rfl) ?_
    obtain ⟨g18, hm⟩ := gd_e hm
    refine zh_getR o g18 fl_J28_46_16 rfl dJ28_next_49 ?_
    obtain ⟨g19, hm⟩ := gd_e hm
    refine zh_getR o g19 fl_J28_52_14 rfl dJ28_next_52 ?_
    refine zh_retr o f dJ28_next_55 rfl (by omega) (by omega) ((so_e hm).trans hR9.symm)
  · have hm := if_e1 hm c
    exact no_e hm

def j_J28_previous_j45 (h : zH) (x0 : Nat) (s2 : Nat) (s1 : Nat) (s0 : Nat) : Option (zH × Nat) :=
  gd (kd h s1 16) <|
  gd (wr h s1) <|
  lt (pR h 16 1 s1 s2) fun S3 =>
  gd (kd S3 s0 16) <|
  gd (wr S3 s0) <|
  lt (pR S3 16 0 s0 s2) fun S6 =>
  gd (kd S6 x0 16) <|
  gd (kd S6 x0 16) <|
  gd (wr S6 x0) <|
  lt (pI S6 16 2 x0 ((hI S6 16 2 x0) - (1 : Int32))) fun S10 =>
  gd (kd S10 x0 16) <|
  gd (kd S10 (hR S10 16 0 x0) 14) <|
  some (S10, hR S10 14 0 (hR S10 16 0 x0))
def j_J28_previous (h : zH) (p : Nat) : Option (zH × Nat) :=
  gd (kd h p 16) <|
  bd (j_J28_checkForComodification h p) fun y2 =>
  gd (kd y2 p 16) <|
  bd (j_J28_hasPrevious y2 p) fun y4 =>
  if y4.2 = (0 : Int32) then
    none
  else
    gd (kd y4.1 p 16) <|
    if (hR y4.1 16 1 p) = 0 then
      gd (kd y4.1 p 16) <|
      gd (kd y4.1 (hR y4.1 16 4 p) 13) <|
      j_J28_previous_j45 y4.1 p (hR y4.1 13 3 (hR y4.1 16 4 p)) p p
    else
      gd (kd y4.1 p 16) <|
      gd (kd y4.1 (hR y4.1 16 1 p) 14) <|
      j_J28_previous_j45 y4.1 p (hR y4.1 14 2 (hR y4.1 16 1 p)) p p

set_option maxHeartbeats 40000000 in
theorem J_J28_previous (G : zG) (h : zH) (p : Nat) (V : Nat) (h9 : zH) (hm : j_J28_previous h p = some (h9, V)) : zJr G yJ28_previous cJ28_previous 1 (some (.object "java/lang/Object")) 1 0 0 [zrf p] h V h9 := by
  refine zCo.st [some (zrf p)] rfl rfl (by simp only [zarg_r, zarg_i, zarg_l, zarg_0]; rfl) (fun X o f0 hin hw0 => ?_)
  have f := f0.e
  have hin : (Xt X).name = "previous" := hin
  refine (?_ : zQ (EH h) G X 0 0 0 [some (zrf p)] []) h rfl hw0
  clear hw0
  generalize hR9 : ((h9, V) : (zH × Nat)) = R at hm
  have hj45 : ∀ (h : zH) (x0 : Nat) (s2 : Nat) (s1 : Nat) (s0 : Nat) (cl sl : Nat), cl + (0) ≤ 0 → sl + (0) ≤ 0 → j_J28_previous_j45 h x0 s2 s1 s0 = some R → zQ (EH h) G X cl sl 45 [some (zrf x0)] [zrf s2, zrf s1, zrf s0] := by
    intro h x0 s2 s1 s0 cl sl hc hs hm
    unfold j_J28_previous_j45 at hm
    refine zQ.s (fun h => zs_dup_x1 o dJ28_previous_45 (by first | rfl | exact zrf_cat _) (by first | rfl | exact zrf_cat _)) ?_
    obtain ⟨g1, hm⟩ := gd_e hm
    obtain ⟨g2, hm⟩ := gd_e hm
    obtain ⟨S3, e_S3, hm⟩ := lt_e hm
    refine zh_putR o g1 g2 fl_J28_29_16 rfl rfl dJ28_previous_46 e_S3 ?_
    obtain ⟨g4, hm⟩ := gd_e hm
    obtain ⟨g5, hm⟩ := gd_e hm
    obtain ⟨S6, e_S6, hm⟩ := lt_e hm
    refine zh_putR o g4 g5 fl_J28_46_16 rfl rfl dJ28_previous_49 e_S6 ?_
    refine zQ.s (fun h => zs_aload_n (i := 0) o dJ28_previous_52 rfl rfl) ?_
    refine zQ.s (fun h => zs_dup o dJ28_previous_53 (by first | rfl | exact zrf_cat _)) ?_
    obtain ⟨g7, hm⟩ := gd_e hm
    refine zh_getI o g7 fl_J28_33_16 rfl dJ28_previous_54 ?_
    refine zQ.s (fun h => zs_iconst (v := 1) o dJ28_previous_57 (by decide)) ?_
    refine zQ.s (fun h => zs_isub o dJ28_previous_58) ?_
    obtain ⟨g8, hm⟩ := gd_e hm
    obtain ⟨g9, hm⟩ := gd_e hm
    obtain ⟨S10, e_S10, hm⟩ := lt_e hm
    refine zh_putI o g8 g9 fl_J28_33_16 rfl rfl ⟨rfl, rfl⟩ dJ28_previous_59 e_S10 ?_
    refine zQ.s (fun h => zs_aload_n (i := 0) o dJ28_previous_62 rfl rfl) ?_
    obtain ⟨g11, hm⟩ := gd_e hm
    refine zh_getR o g11 fl_J28_46_16 rfl dJ28_previous_63 ?_
    obtain ⟨g12, hm⟩ := gd_e hm
    refine zh_getR o g12 fl_J28_52_14 rfl dJ28_previous_66 ?_
    refine zh_retr o f dJ28_previous_69 rfl (by omega) (by omega) ((so_e hm).trans hR9.symm)
  unfold j_J28_previous at hm
  refine zQ.s (fun h => zs_aload_n (i := 0) o dJ28_previous_0 rfl rfl) ?_
  obtain ⟨g1, hm⟩ := gd_e hm
  obtain ⟨y2, c_y2, hm⟩ := bd_e hm
  refine zh_Vv o g1 ml_J28_36 (J_J28_checkForComodification G _ _ _  c_y2) dJ28_previous_1 rfl rfl rfl rfl (by omega) (by omega) ?_
  refine zQ.s (fun h => zs_aload_n (i := 0) o dJ28_previous_4 rfl rfl) ?_
  obtain ⟨g3, hm⟩ := gd_e hm
  obtain ⟨y4, c_y4, hm⟩ := bd_e hm
  refine zh_Vi o g3 ml_J28_56 (J_J28_hasPrevious G _ _ _ _  c_y4) dJ28_previous_5 rfl rfl rfl rfl (by omega) (by omega) ?_
  refine zQ.b (fun h => zs_if_ne (tgt := 19) o dJ28_previous_8 (by decide)) (fun c => ?_) (fun c => ?_)
  · have hm := if_e2 hm c
    refine zQ.s (fun h => zs_aload_n (i := 0) o dJ28_previous_19 rfl rfl) ?_
    refine zQ.s (fun h => zs_aload_n (i := 0) o dJ28_previous_20 rfl rfl) ?_
    refine zQ.s (fun h => zs_aload_n (i := 0) o dJ28_previous_21 rfl rfl) ?_
    obtain ⟨g5, hm⟩ := gd_e hm
    refine zh_getR o g5 fl_J28_29_16 rfl dJ28_previous_22 ?_
    refine zQ.b (fun h => zs_ifnonnull (tgt := 38) o dJ28_previous_25 (by decide)) (fun c => ?_) (fun c => ?_)
    · have hm := if_e2 hm c
      refine zQ.s (fun h => zs_aload_n (i := 0) o dJ28_previous_38 rfl rfl) ?_
      obtain ⟨g6, hm⟩ := gd_e hm
      refine zh_getR o g6 fl_J28_29_16 rfl dJ28_previous_39 ?_
      obtain ⟨g7, hm⟩ := gd_e hm
      refine zh_getR o g7 fl_J28_62_14 rfl dJ28_previous_42 ?_
      exact hj45 _ _ _ _ _ _ _ (by omega) (by omega) hm
    · have hm := if_e1 hm c
      refine zQ.s (fun h => zs_aload_n (i := 0) o dJ28_previous_28 rfl rfl) ?_
      obtain ⟨g8, hm⟩ := gd_e hm
      refine zh_getR o g8 fl_J28_1_16 rfl dJ28_previous_29 ?_
      obtain ⟨g9, hm⟩ := gd_e hm
      refine zh_getR o g9 fl_J28_59_13 rfl dJ28_previous_32 ?_
      refine zQ.s (fun h => zs_goto (tgt := 45) o dJ28_previous_35 (by decide)) ?_
      exact hj45 _ _ _ _ _ _ _ (by omega) (by omega) hm
  · have hm := if_e1 hm c
    exact no_e hm

def j_J28_remove_j68 (h : zH) (x0 : Nat) : Option zH :=
  gd (kd h x0 16) <|
  gd (wr h x0) <|
  lt (pR h 16 0 x0 0) fun S3 =>
  gd (kd S3 x0 16) <|
  gd (kd S3 x0 16) <|
  gd (wr S3 x0) <|
  lt (pI S3 16 3 x0 ((hI S3 16 3 x0) + (1 : Int32))) fun S7 =>
  some S7
def j_J28_remove (h : zH) (p : Nat) : Option zH :=
  gd (kd h p 16) <|
  bd (j_J28_checkForComodification h p) fun y2 =>
  gd (kd y2 p 16) <|
  if (hR y2 16 0 p) = 0 then
    none
  else
    gd (kd y2 p 16) <|
    gd (kd y2 (hR y2 16 0 p) 14) <|
    lt (hR y2 14 1 (hR y2 16 0 p)) fun r6 =>
    gd (kd y2 p 16) <|
    gd (kd y2 p 16) <|
    gd (kd y2 (hR y2 16 4 p) 13) <|
    bd (j_J6_unlink y2 (hR y2 16 4 p) (hR y2 16 0 p)) fun y10 =>
    gd (kd y10.1 p 16) <|
    gd (kd y10.1 p 16) <|
    if (hR y10.1 16 1 p) = (hR y10.1 16 0 p) then
      gd (kd y10.1 p 16) <|
      gd (wr y10.1 p) <|
      lt (pR y10.1 16 1 p r6) fun S19 =>
      j_J28_remove_j68 S19 p
    else
      gd (kd y10.1 p 16) <|
      gd (kd y10.1 p 16) <|
      gd (wr y10.1 p) <|
      lt (pI y10.1 16 2 p ((hI y10.1 16 2 p) - (1 : Int32))) fun S16 =>
      j_J28_remove_j68 S16 p

set_option maxHeartbeats 40000000 in
theorem J_J28_remove (G : zG) (h : zH) (p : Nat) (h9 : zH) (hm : j_J28_remove h p = some h9) : zJv G yJ28_remove cJ28_remove 2 none 1 0 0 [zrf p] h h9 := by
  refine zCo.st [some (zrf p), none] rfl rfl (by simp only [zarg_r, zarg_i, zarg_l, zarg_0]; rfl) (fun X o f0 hin hw0 => ?_)
  have f := f0.e
  have hin : (Xt X).name = "remove" := hin
  refine (?_ : zQ (EH h) G X 0 0 0 [some (zrf p), none] []) h rfl hw0
  clear hw0
  generalize hR9 : (h9 : zH) = R at hm
  have hj68 : ∀ (h : zH) (x0 : Nat) (cl sl : Nat), cl + (0) ≤ 0 → sl + (0) ≤ 0 → j_J28_remove_j68 h x0 = some R → zQ (EH h) G X cl sl 68 [some (zrf x0), none] [] := by
    intro h x0 cl sl hc hs hm
    unfold j_J28_remove_j68 at hm
    refine zQ.s (fun h => zs_aload_n (i := 0) o dJ28_remove_68 rfl rfl) ?_
    refine zQ.s (fun h => zs_nul o dJ28_remove_69) ?_
    obtain ⟨g1, hm⟩ := gd_e hm
    obtain ⟨g2, hm⟩ := gd_e hm
    obtain ⟨S3, e_S3, hm⟩ := lt_e hm
    refine zh_putR o g1 g2 fl_J28_46_16 rfl rfl dJ28_remove_70 e_S3 ?_
    refine zQ.s (fun h => zs_aload_n (i := 0) o dJ28_remove_73 rfl rfl) ?_
    refine zQ.s (fun h => zs_dup o dJ28_remove_74 (by first | rfl | exact zrf_cat _)) ?_
    obtain ⟨g4, hm⟩ := gd_e hm
    refine zh_getI o g4 fl_J28_19_16 rfl dJ28_remove_75 ?_
    refine zQ.s (fun h => zs_iconst (v := 1) o dJ28_remove_78 (by decide)) ?_
    refine zQ.s (fun h => zs_iadd o dJ28_remove_79) ?_
    obtain ⟨g5, hm⟩ := gd_e hm
    obtain ⟨g6, hm⟩ := gd_e hm
    obtain ⟨S7, e_S7, hm⟩ := lt_e hm
    refine zh_putI o g5 g6 fl_J28_19_16 rfl rfl ⟨rfl, rfl⟩ dJ28_remove_80 e_S7 ?_
    refine zh_retv o f dJ28_remove_83 (by omega) (by omega) ((so_e hm).trans hR9.symm)
  unfold j_J28_remove at hm
  refine zQ.s (fun h => zs_aload_n (i := 0) o dJ28_remove_0 rfl rfl) ?_
  obtain ⟨g1, hm⟩ := gd_e hm
  obtain ⟨y2, c_y2, hm⟩ := bd_e hm
  refine zh_Vv o g1 ml_J28_36 (J_J28_checkForComodification G _ _ _  c_y2) dJ28_remove_1 rfl rfl rfl rfl (by omega) (by omega) ?_
  refine zQ.s (fun h => zs_aload_n (i := 0) o dJ28_remove_4 rfl rfl) ?_
  obtain ⟨g3, hm⟩ := gd_e hm
  refine zh_getR o g3 fl_J28_46_16 rfl dJ28_remove_5 ?_
  refine zQ.b (fun h => zs_ifnonnull (tgt := 19) o dJ28_remove_8 (by decide)) (fun c => ?_) (fun c => ?_)
  · have hm := if_e2 hm c
    refine zQ.s (fun h => zs_aload_n (i := 0) o dJ28_remove_19 rfl rfl) ?_
    obtain ⟨g4, hm⟩ := gd_e hm
    refine zh_getR o g4 fl_J28_46_16 rfl dJ28_remove_20 ?_
    obtain ⟨g5, hm⟩ := gd_e hm
    refine zh_getR o g5 fl_J28_49_14 rfl dJ28_remove_23 ?_
    obtain ⟨r6, e_r6, hm⟩ := lt_e hm
    refine zQ.nmr e_r6 ?_
    refine zQ.s (fun h => zs_astore_n (i := 1) o dJ28_remove_26 rfl (by decide) (Or.inr (zc2_ref rfl)) (by simp only [List.set_cons_succ, List.set_cons_zero]; rfl)) ?_
    refine zQ.s (fun h => zs_aload_n (i := 0) o dJ28_remove_27 rfl rfl) ?_
    obtain ⟨g7, hm⟩ := gd_e hm
    refine zh_getR o g7 fl_J28_1_16 rfl dJ28_remove_28 ?_
    refine zQ.s (fun h => zs_aload_n (i := 0) o dJ28_remove_31 rfl rfl) ?_
    obtain ⟨g8, hm⟩ := gd_e hm
    refine zh_getR o g8 fl_J28_46_16 rfl dJ28_remove_32 ?_
    obtain ⟨g9, hm⟩ := gd_e hm
    obtain ⟨y10, c_y10, hm⟩ := bd_e hm
    refine zh_Vr o g9 ml_J28_68 (J_J6_unlink G _ _ _ _ _  c_y10) dJ28_remove_35 rfl rfl rfl rfl (by omega) (by omega) ?_
    refine zQ.s (fun h => zs_pop o dJ28_remove_38 (by first | rfl | exact zrf_cat _)) ?_
    refine zQ.s (fun h => zs_aload_n (i := 0) o dJ28_remove_39 rfl rfl) ?_
    obtain ⟨g11, hm⟩ := gd_e hm
    refine zh_getR o g11 fl_J28_29_16 rfl dJ28_remove_40 ?_
    refine zQ.s (fun h => zs_aload_n (i := 0) o dJ28_remove_43 rfl rfl) ?_
    obtain ⟨g12, hm⟩ := gd_e hm
    refine zh_getR o g12 fl_J28_46_16 rfl dJ28_remove_44 ?_
    refine zQ.b (fun h => zs_acmp_ne (tgt := 58) o dJ28_remove_47 (by decide)) (fun c => ?_) (fun c => ?_)
    · have hm := if_e2 hm c
      refine zQ.s (fun h => zs_aload_n (i := 0) o dJ28_remove_58 rfl rfl) ?_
      refine zQ.s (fun h => zs_dup o dJ28_remove_59 (by first | rfl | exact zrf_cat _)) ?_
      obtain ⟨g13, hm⟩ := gd_e hm
      refine zh_getI o g13 fl_J28_33_16 rfl dJ28_remove_60 ?_
      refine zQ.s (fun h => zs_iconst (v := 1) o dJ28_remove_63 (by decide)) ?_
      refine zQ.s (fun h => zs_isub o dJ28_remove_64) ?_
      obtain ⟨g14, hm⟩ := gd_e hm
      obtain ⟨g15, hm⟩ := gd_e hm
      obtain ⟨S16, e_S16, hm⟩ := lt_e hm
      refine zh_putI o g14 g15 fl_J28_33_16 rfl rfl ⟨rfl, rfl⟩ dJ28_remove_65 e_S16 ?_
      refine zQ.fg (zl_s (zl_n zl_0)) ?_
      exact hj68 _ _ _ _ (by omega) (by omega) hm
    · have hm := if_e1 hm c
      refine zQ.s (fun h => zs_aload_n (i := 0) o dJ28_remove_50 rfl rfl) ?_
      refine zQ.s (fun h => zs_aload_n (i := 1) o dJ28_remove_51 rfl rfl) ?_
      obtain ⟨g17, hm⟩ := gd_e hm
      obtain ⟨g18, hm⟩ := gd_e hm
      obtain ⟨S19, e_S19, hm⟩ := lt_e hm
      refine zh_putR o g17 g18 fl_J28_29_16 rfl rfl dJ28_remove_52 e_S19 ?_
      refine zQ.s (fun h => zs_goto (tgt := 68) o dJ28_remove_55 (by decide)) ?_
      refine zQ.fg (zl_s (zl_n zl_0)) ?_
      exact hj68 _ _ _ _ (by omega) (by omega) hm
  · have hm := if_e1 hm c
    exact no_e hm

def j_J32_init (h : zH) (p : Nat) (a1 : Nat) : Option zH :=
  gd (kd h p 17) <|
  gd (wr h p) <|
  lt (pR h 17 1 p a1) fun S3 =>
  gd (nzr p) <|
  lt (zT S3 + 1) fun r5 =>
  lt (nw S3 16 (rl S3 p) 0) fun S6 =>
  gd (kd S6 p 17) <|
  gd (kd S6 p 17) <|
  gd (kd S6 (hR S6 17 1 p) 13) <|
  bd (j_J6_size S6 (hR S6 17 1 p)) fun y10 =>
  gd (nzr r5) <|
  bd (j_J28_init y10.1 r5 (hR S6 17 1 p) y10.2) fun y12 =>
  gd (kd y12 p 17) <|
  gd (wr y12 p) <|
  lt (pR y12 17 0 p r5) fun S15 =>
  some S15

set_option maxHeartbeats 40000000 in
theorem J_J32_init (G : zG) (h : zH) (p : Nat) (a1 : Nat) (h9 : zH) (hm : j_J32_init h p a1 = some h9) : zJv G yJ32_init cJ32_init 2 none 2 1 5 [zrf p, zrf a1] h h9 := by
  refine zCo.st [some (zrf p), some (zrf a1)] rfl rfl (by simp only [zarg_r, zarg_i, zarg_l, zarg_0]; rfl) (fun X o f0 hin hw0 => ?_)
  have f := f0.e
  have hin : (Xt X).name = "<init>" := hin
  refine (?_ : zQ (EH h) G X 0 0 0 [some (zrf p), some (zrf a1)] []) h rfl hw0
  clear hw0
  generalize hR9 : (h9 : zH) = R at hm
  unfold j_J32_init at hm
  refine zQ.s (fun h => zs_aload_n (i := 0) o dJ32_init_0 rfl rfl) ?_
  refine zQ.s (fun h => zs_aload_n (i := 1) o dJ32_init_1 rfl rfl) ?_
  obtain ⟨g1, hm⟩ := gd_e hm
  obtain ⟨g2, hm⟩ := gd_e hm
  obtain ⟨S3, e_S3, hm⟩ := lt_e hm
  refine zh_putRF o hin g1 g2 fl_J32_1_17 rfl ⟨rfl, rfl⟩ dJ32_init_2 e_S3 ?_
  refine zQ.s (fun h => zs_aload_n (i := 0) o dJ32_init_5 rfl rfl) ?_
  obtain ⟨g4, hm⟩ := gd_e hm
  refine zh_objInit o g4 q1822 q163 q164 dJ32_init_6 rfl rfl ?_
  refine zQ.s (fun h => zs_aload_n (i := 0) o dJ32_init_9 rfl rfl) ?_
  obtain ⟨r5, e_r5, hm⟩ := lt_e hm
  obtain ⟨S6, e_S6, hm⟩ := lt_e hm
  refine zh_new (N := 5) o nl_J32_13 rfl dJ32_init_10 (by omega) (by omega) e_S6 ?_
  refine zQ.nmr e_r5 ?_
  refine zQ.s (fun h => zs_dup o dJ32_init_13 (by first | rfl | exact zrf_cat _)) ?_
  refine zQ.s (fun h => zs_aload_n (i := 0) o dJ32_init_14 rfl rfl) ?_
  obtain ⟨g7, hm⟩ := gd_e hm
  refine zh_getR o g7 fl_J32_1_17 rfl dJ32_init_15 ?_
  refine zQ.s (fun h => zs_aload_n (i := 0) o dJ32_init_18 rfl rfl) ?_
  obtain ⟨g8, hm⟩ := gd_e hm
  refine zh_getR o g8 fl_J32_1_17 rfl dJ32_init_19 ?_
  obtain ⟨g9, hm⟩ := gd_e hm
  obtain ⟨y10, c_y10, hm⟩ := bd_e hm
  refine zh_Vi o g9 ml_J32_15 (J_J6_size G _ _ _ _  c_y10) dJ32_init_22 rfl rfl rfl rfl (by omega) (by omega) ?_
  obtain ⟨g11, hm⟩ := gd_e hm
  obtain ⟨y12, c_y12, hm⟩ := bd_e hm
  refine zh_Iv o g11 ml_J32_21 (J_J28_init G _ _ _ _ _  c_y12) dJ32_init_25 rfl rfl rfl rfl (by omega) (by omega) ?_
  obtain ⟨g13, hm⟩ := gd_e hm
  obtain ⟨g14, hm⟩ := gd_e hm
  obtain ⟨S15, e_S15, hm⟩ := lt_e hm
  refine zh_putRF o hin g13 g14 fl_J32_24_17 rfl ⟨rfl, rfl⟩ dJ32_init_28 e_S15 ?_
  refine zh_retv o f dJ32_init_31 (by omega) (by omega) ((so_e hm).trans hR9.symm)

def j_J32_hasNext (h : zH) (p : Nat) : Option (zH × Int32) :=
  gd (kd h p 17) <|
  gd (kd h (hR h 17 0 p) 16) <|
  bd (j_J28_hasPrevious h (hR h 17 0 p)) fun y3 =>
  gd (b01 y3.2) <|
  some (y3.1, y3.2)

set_option maxHeartbeats 40000000 in
theorem J_J32_hasNext (G : zG) (h : zH) (p : Nat) (V : Int32) (h9 : zH) (hm : j_J32_hasNext h p = some (h9, V)) : zJi G yJ32_hasNext cJ32_hasNext 1 (some .boolean) 1 0 0 [zrf p] h V h9 := by
  refine zCo.st [some (zrf p)] rfl rfl (by simp only [zarg_r, zarg_i, zarg_l, zarg_0]; rfl) (fun X o f0 hin hw0 => ?_)
  have f := f0.e
  have hin : (Xt X).name = "hasNext" := hin
  refine (?_ : zQ (EH h) G X 0 0 0 [some (zrf p)] []) h rfl hw0
  clear hw0
  generalize hR9 : ((h9, V) : (zH × Int32)) = R at hm
  unfold j_J32_hasNext at hm
  refine zQ.s (fun h => zs_aload_n (i := 0) o dJ32_hasNext_0 rfl rfl) ?_
  obtain ⟨g1, hm⟩ := gd_e hm
  refine zh_getR o g1 fl_J32_24_17 rfl dJ32_hasNext_1 ?_
  obtain ⟨g2, hm⟩ := gd_e hm
  obtain ⟨y3, c_y3, hm⟩ := bd_e hm
  refine zh_Vi o g2 ml_J32_28 (J_J28_hasPrevious G _ _ _ _  c_y3) dJ32_hasNext_4 rfl rfl rfl rfl (by omega) (by omega) ?_
  obtain ⟨g4, hm⟩ := gd_e hm
  refine zh_reti o f dJ32_hasNext_7 (b01_e g4).1 (by omega) (by omega) ((so_e hm).trans hR9.symm)

def j_J32_next (h : zH) (p : Nat) : Option (zH × Nat) :=
  gd (kd h p 17) <|
  gd (kd h (hR h 17 0 p) 16) <|
  bd (j_J28_previous h (hR h 17 0 p)) fun y3 =>
  some (y3.1, y3.2)

set_option maxHeartbeats 40000000 in
theorem J_J32_next (G : zG) (h : zH) (p : Nat) (V : Nat) (h9 : zH) (hm : j_J32_next h p = some (h9, V)) : zJr G yJ32_next cJ32_next 1 (some (.object "java/lang/Object")) 2 0 0 [zrf p] h V h9 := by
  refine zCo.st [some (zrf p)] rfl rfl (by simp only [zarg_r, zarg_i, zarg_l, zarg_0]; rfl) (fun X o f0 hin hw0 => ?_)
  have f := f0.e
  have hin : (Xt X).name = "next" := hin
  refine (?_ : zQ (EH h) G X 0 0 0 [some (zrf p)] []) h rfl hw0
  clear hw0
  generalize hR9 : ((h9, V) : (zH × Nat)) = R at hm
  unfold j_J32_next at hm
  refine zQ.s (fun h => zs_aload_n (i := 0) o dJ32_next_0 rfl rfl) ?_
  obtain ⟨g1, hm⟩ := gd_e hm
  refine zh_getR o g1 fl_J32_24_17 rfl dJ32_next_1 ?_
  obtain ⟨g2, hm⟩ := gd_e hm
  obtain ⟨y3, c_y3, hm⟩ := bd_e hm
  refine zh_Vr o g2 ml_J32_32 (J_J28_previous G _ _ _ _  c_y3) dJ32_next_4 rfl rfl rfl rfl (by omega) (by omega) ?_
  refine zh_retr o f dJ32_next_7 rfl (by omega) (by omega) ((so_e hm).trans hR9.symm)

def j_J32_remove (h : zH) (p : Nat) : Option zH :=
  gd (kd h p 17) <|
  gd (kd h (hR h 17 0 p) 16) <|
  bd (j_J28_remove h (hR h 17 0 p)) fun y3 =>
  some y3

set_option maxHeartbeats 40000000 in
theorem J_J32_remove (G : zG) (h : zH) (p : Nat) (h9 : zH) (hm : j_J32_remove h p = some h9) : zJv G yJ32_remove cJ32_remove 1 none 2 0 0 [zrf p] h h9 := by
  refine zCo.st [some (zrf p)] rfl rfl (by simp only [zarg_r, zarg_i, zarg_l, zarg_0]; rfl) (fun X o f0 hin hw0 => ?_)
  have f := f0.e
  have hin : (Xt X).name = "remove" := hin
  refine (?_ : zQ (EH h) G X 0 0 0 [some (zrf p)] []) h rfl hw0
  clear hw0
  generalize hR9 : (h9 : zH) = R at hm
  unfold j_J32_remove at hm
  refine zQ.s (fun h => zs_aload_n (i := 0) o dJ32_remove_0 rfl rfl) ?_
  obtain ⟨g1, hm⟩ := gd_e hm
  refine zh_getR o g1 fl_J32_24_17 rfl dJ32_remove_1 ?_
  obtain ⟨g2, hm⟩ := gd_e hm
  obtain ⟨y3, c_y3, hm⟩ := bd_e hm
  refine zh_Vv o g2 ml_J32_36 (J_J28_remove G _ _ _  c_y3) dJ32_remove_4 rfl rfl rfl rfl (by omega) (by omega) ?_
  refine zh_retv o f dJ32_remove_7 (by omega) (by omega) ((so_e hm).trans hR9.symm)

def j_J6_descendingIterator (h : zH) (p : Nat) : Option (zH × Nat) :=
  lt (zT h + 1) fun r1 =>
  lt (nw h 17 (rl h p) 0) fun S2 =>
  gd (nzr r1) <|
  bd (j_J32_init S2 r1 p) fun y4 =>
  some (y4, r1)

set_option maxHeartbeats 40000000 in
theorem J_J6_descendingIterator (G : zG) (h : zH) (p : Nat) (V : Nat) (h9 : zH) (hm : j_J6_descendingIterator h p = some (h9, V)) : zJr G yJ6_descendingIterator cJ6_descendingIterator 1 (some (.object "java/util/Iterator")) 3 2 7 [zrf p] h V h9 := by
  refine zCo.st [some (zrf p)] rfl rfl (by simp only [zarg_r, zarg_i, zarg_l, zarg_0]; rfl) (fun X o f0 hin hw0 => ?_)
  have f := f0.e
  have hin : (Xt X).name = "descendingIterator" := hin
  refine (?_ : zQ (EH h) G X 0 0 0 [some (zrf p)] []) h rfl hw0
  clear hw0
  generalize hR9 : ((h9, V) : (zH × Nat)) = R at hm
  unfold j_J6_descendingIterator at hm
  obtain ⟨r1, e_r1, hm⟩ := lt_e hm
  obtain ⟨S2, e_S2, hm⟩ := lt_e hm
  refine zh_new (N := 2) o nl_J6_155 rfl dJ6_descendingIterator_0 (by omega) (by omega) e_S2 ?_
  refine zQ.nmr e_r1 ?_
  refine zQ.s (fun h => zs_dup o dJ6_descendingIterator_3 (by first | rfl | exact zrf_cat _)) ?_
  refine zQ.s (fun h => zs_aload_n (i := 0) o dJ6_descendingIterator_4 rfl rfl) ?_
  obtain ⟨g3, hm⟩ := gd_e hm
  obtain ⟨y4, c_y4, hm⟩ := bd_e hm
  refine zh_Iv o g3 ml_J6_157 (J_J32_init G _ _ _ _  c_y4) dJ6_descendingIterator_5 rfl rfl rfl rfl (by omega) (by omega) ?_
  refine zh_retr o f dJ6_descendingIterator_8 rfl (by omega) (by omega) ((so_e hm).trans hR9.symm)

def j_J6_listIterator (h : zH) (p : Nat) (a1 : Int32) : Option (zH × Nat) :=
  gd (kd h p 13) <|
  bd (j_J6_checkPositionIndex h p a1) fun y2 =>
  lt (zT y2 + 1) fun r3 =>
  lt (nw y2 16 (rl y2 p) 0) fun S4 =>
  gd (nzr r3) <|
  bd (j_J28_init S4 r3 p a1) fun y6 =>
  some (y6, r3)

set_option maxHeartbeats 40000000 in
theorem J_J6_listIterator (G : zG) (h : zH) (p : Nat) (a1 : Int32) (V : Nat) (h9 : zH) (hm : j_J6_listIterator h p a1 = some (h9, V)) : zJr G yJ6_listIterator cJ6_listIterator 2 (some (.object "java/util/ListIterator")) 2 1 5 [zrf p, .int a1] h V h9 := by
  refine zCo.st [some (zrf p), some (.int a1)] rfl rfl (by simp only [zarg_r, zarg_i, zarg_l, zarg_0]; rfl) (fun X o f0 hin hw0 => ?_)
  have f := f0.e
  have hin : (Xt X).name = "listIterator" := hin
  refine (?_ : zQ (EH h) G X 0 0 0 [some (zrf p), some (.int a1)] []) h rfl hw0
  clear hw0
  generalize hR9 : ((h9, V) : (zH × Nat)) = R at hm
  unfold j_J6_listIterator at hm
  refine zQ.s (fun h => zs_aload_n (i := 0) o dJ6_listIterator_0 rfl rfl) ?_
  refine zQ.s (fun h => zs_iload_n (i := 1) o dJ6_listIterator_1 rfl rfl) ?_
  obtain ⟨g1, hm⟩ := gd_e hm
  obtain ⟨y2, c_y2, hm⟩ := bd_e hm
  refine zh_Vv o g1 ml_J6_76 (J_J6_checkPositionIndex G _ _ _ _  c_y2) dJ6_listIterator_2 rfl rfl rfl rfl (by omega) (by omega) ?_
  obtain ⟨r3, e_r3, hm⟩ := lt_e hm
  obtain ⟨S4, e_S4, hm⟩ := lt_e hm
  refine zh_new (N := 5) o nl_J6_150 rfl dJ6_listIterator_5 (by omega) (by omega) e_S4 ?_
  refine zQ.nmr e_r3 ?_
  refine zQ.s (fun h => zs_dup o dJ6_listIterator_8 (by first | rfl | exact zrf_cat _)) ?_
  refine zQ.s (fun h => zs_aload_n (i := 0) o dJ6_listIterator_9 rfl rfl) ?_
  refine zQ.s (fun h => zs_iload_n (i := 1) o dJ6_listIterator_10 rfl rfl) ?_
  obtain ⟨g5, hm⟩ := gd_e hm
  obtain ⟨y6, c_y6, hm⟩ := bd_e hm
  refine zh_Iv o g5 ml_J6_152 (J_J28_init G _ _ _ _ _  c_y6) dJ6_listIterator_11 rfl rfl rfl rfl (by omega) (by omega) ?_
  refine zh_retr o f dJ6_listIterator_14 rfl (by omega) (by omega) ((so_e hm).trans hR9.symm)

def j_J1_listIterator (h : zH) (p : Nat) : Option (zH × Nat) :=
  gd (kd h p 13) <|
  bd (j_J6_listIterator h p (0 : Int32)) fun y2 =>
  some (y2.1, y2.2)

set_option maxHeartbeats 40000000 in
theorem J_J1_listIterator (G : zG) (h : zH) (p : Nat) (V : Nat) (h9 : zH) (hm : j_J1_listIterator h p = some (h9, V)) : zJr G yJ1_listIterator cJ1_listIterator 1 (some (.object "java/util/ListIterator")) 3 1 5 [zrf p] h V h9 := by
  refine zCo.st [some (zrf p)] rfl rfl (by simp only [zarg_r, zarg_i, zarg_l, zarg_0]; rfl) (fun X o f0 hin hw0 => ?_)
  have f := f0.e
  have hin : (Xt X).name = "listIterator" := hin
  refine (?_ : zQ (EH h) G X 0 0 0 [some (zrf p)] []) h rfl hw0
  clear hw0
  generalize hR9 : ((h9, V) : (zH × Nat)) = R at hm
  unfold j_J1_listIterator at hm
  refine zQ.s (fun h => zs_aload_n (i := 0) o dJ1_listIterator_0 rfl rfl) ?_
  refine zQ.s (fun h => zs_iconst (v := 0) o dJ1_listIterator_1 (by decide)) ?_
  obtain ⟨g1, hm⟩ := gd_e hm
  obtain ⟨y2, c_y2, hm⟩ := bd_e hm
  refine zh_Ur o g1 ml_J1_47_13 (J_J6_listIterator G _ _ _ _ _  c_y2) dJ1_listIterator_2 rfl rfl rfl rfl (by omega) (by omega) ?_
  refine zh_retr o f dJ1_listIterator_5 rfl (by omega) (by omega) ((so_e hm).trans hR9.symm)

def j_J5_iterator (h : zH) (p : Nat) : Option (zH × Nat) :=
  gd (kd h p 13) <|
  bd (j_J1_listIterator h p) fun y2 =>
  some (y2.1, y2.2)

set_option maxHeartbeats 40000000 in
theorem J_J5_iterator (G : zG) (h : zH) (p : Nat) (V : Nat) (h9 : zH) (hm : j_J5_iterator h p = some (h9, V)) : zJr G yJ5_iterator cJ5_iterator 1 (some (.object "java/util/Iterator")) 4 1 5 [zrf p] h V h9 := by
  refine zCo.st [some (zrf p)] rfl rfl (by simp only [zarg_r, zarg_i, zarg_l, zarg_0]; rfl) (fun X o f0 hin hw0 => ?_)
  have f := f0.e
  have hin : (Xt X).name = "iterator" := hin
  refine (?_ : zQ (EH h) G X 0 0 0 [some (zrf p)] []) h rfl hw0
  clear hw0
  generalize hR9 : ((h9, V) : (zH × Nat)) = R at hm
  unfold j_J5_iterator at hm
  refine zQ.s (fun h => zs_aload_n (i := 0) o dJ5_iterator_0 rfl rfl) ?_
  obtain ⟨g1, hm⟩ := gd_e hm
  obtain ⟨y2, c_y2, hm⟩ := bd_e hm
  refine zh_Ur o g1 ml_J5_65_13 (J_J1_listIterator G _ _ _ _  c_y2) dJ5_iterator_1 rfl rfl rfl rfl (by omega) (by omega) ?_
  refine zh_retr o f dJ5_iterator_4 rfl (by omega) (by omega) ((so_e hm).trans hR9.symm)

def j_J0_isEmptyL_j12 (h : zH) (s0 : Int32) : Option (zH × Int32) :=
  gd (b01 s0) <|
  some (h, s0)
def j_J0_isEmptyL (h : zH) (p : Nat) : Option (zH × Int32) :=
  gd (kd h p 13) <|
  bd (j_J6_size h p) fun y2 =>
  if y2.2 = (0 : Int32) then
    j_J0_isEmptyL_j12 y2.1 (1 : Int32)
  else
    j_J0_isEmptyL_j12 y2.1 (0 : Int32)

set_option maxHeartbeats 40000000 in
theorem J_J0_isEmptyL (G : zG) (h : zH) (p : Nat) (V : Int32) (h9 : zH) (hm : j_J0_isEmptyL h p = some (h9, V)) : zJi G yJ0_isEmpty cJ0_isEmpty 1 (some .boolean) 1 0 0 [zrf p] h V h9 := by
  refine zCo.st [some (zrf p)] rfl rfl (by simp only [zarg_r, zarg_i, zarg_l, zarg_0]; rfl) (fun X o f0 hin hw0 => ?_)
  have f := f0.e
  have hin : (Xt X).name = "isEmpty" := hin
  refine (?_ : zQ (EH h) G X 0 0 0 [some (zrf p)] []) h rfl hw0
  clear hw0
  generalize hR9 : ((h9, V) : (zH × Int32)) = R at hm
  have hj12 : ∀ (h : zH) (s0 : Int32) (cl sl : Nat), cl + (0) ≤ 0 → sl + (0) ≤ 0 → j_J0_isEmptyL_j12 h s0 = some R → zQ (EH h) G X cl sl 12 [none] [.int s0] := by
    intro h s0 cl sl hc hs hm
    unfold j_J0_isEmptyL_j12 at hm
    obtain ⟨g1, hm⟩ := gd_e hm
    refine zh_reti o f dJ0_isEmpty_12 (b01_e g1).1 (by omega) (by omega) ((so_e hm).trans hR9.symm)
  unfold j_J0_isEmptyL at hm
  refine zQ.s (fun h => zs_aload_n (i := 0) o dJ0_isEmpty_0 rfl rfl) ?_
  obtain ⟨g1, hm⟩ := gd_e hm
  obtain ⟨y2, c_y2, hm⟩ := bd_e hm
  refine zh_Ui o g1 ml_J0_7_13 (J_J6_size G _ _ _ _  c_y2) dJ0_isEmpty_1 rfl rfl rfl rfl (by omega) (by omega) ?_
  refine zQ.b (fun h => zs_if_ne (tgt := 11) o dJ0_isEmpty_4 (by decide)) (fun c => ?_) (fun c => ?_)
  · have hm := if_e2 hm c
    refine zQ.s (fun h => zs_iconst (v := 0) o dJ0_isEmpty_11 (by decide)) ?_
    refine zQ.fg (zl_n zl_0) ?_
    exact hj12 _ _ _ _ (by omega) (by omega) hm
  · have hm := if_e1 hm c
    refine zQ.s (fun h => zs_iconst (v := 1) o dJ0_isEmpty_7 (by decide)) ?_
    refine zQ.s (fun h => zs_goto (tgt := 12) o dJ0_isEmpty_8 (by decide)) ?_
    refine zQ.fg (zl_n zl_0) ?_
    exact hj12 _ _ _ _ (by omega) (by omega) hm

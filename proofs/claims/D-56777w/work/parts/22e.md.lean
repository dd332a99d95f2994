/-! THE REFERENCE, method by method: what it does (m_) and that it does it (M_): printed by mk30.py -/
set_option maxRecDepth 100000
def m_cycle (S : MS) : Option (MS × Int32) :=
  lt (tS S 54 (0 : Int32)) fun S1 =>
  some (S1, mS S1 36)

set_option maxHeartbeats 40000000 in
theorem M_cycle (G : zG) (p : Nat) (g : MG) (q n : Nat) (S : MS) (V : Int32) (S9 : MS) (hm : m_cycle S = some (S9, V)) : zMi G yX3_cycle cX3_cycle 1 (some .int) 0 0 0 p g q n [] S V S9 := by
  intro h0 h hI0
  refine zCo.st [some (zrf p)] rfl rfl (by simp only [zarg_r, zarg_i, zarg_l, zarg_0]; rfl) (fun X o f0 hin hw0 => ?_)
  have f := f0.e
  refine (?_ : zQ (IM h0 p g q n S) G X 0 0 0 [some (zrf p)] []) h hI0 hw0
  clear hI0 hw0
  generalize hR9 : ((S9, V) : (MS × Int32)) = R at hm
  unfold m_cycle at hm
  refine zQ.s (fun h => zs_aload_n (i := 0) o dX3_cycle_0 rfl rfl) ?_
  refine zQ.s (fun h => zs_iconst (v := 0) o dX3_cycle_1 (by decide)) ?_
  obtain ⟨S1, e_S1, hm⟩ := lt_e hm
  refine zm_putI o fl_X3_123_3 rfl rfl ⟨rfl, rfl⟩ dX3_cycle_2 e_S1 ?_
  refine zQ.s (fun h => zs_aload_n (i := 0) o dX3_cycle_5 rfl rfl) ?_
  refine zm_getI o fl_X3_133_3 rfl dX3_cycle_6 ?_
  refine zm_reti o f dX3_cycle_9 rfl (by omega) (by omega) ((so_e hm).trans hR9.symm)

def m_hasStopped (S : MS) : Option (MS × Int32) :=
  lt (tS S 54 (0 : Int32)) fun S1 =>
  gd (b01 (mS S1 37)) <|
  some (S1, mS S1 37)

set_option maxHeartbeats 40000000 in
theorem M_hasStopped (G : zG) (p : Nat) (g : MG) (q n : Nat) (S : MS) (V : Int32) (S9 : MS) (hm : m_hasStopped S = some (S9, V)) : zMi G yX3_hasStopped cX3_hasStopped 1 (some .boolean) 0 0 0 p g q n [] S V S9 := by
  intro h0 h hI0
  refine zCo.st [some (zrf p)] rfl rfl (by simp only [zarg_r, zarg_i, zarg_l, zarg_0]; rfl) (fun X o f0 hin hw0 => ?_)
  have f := f0.e
  refine (?_ : zQ (IM h0 p g q n S) G X 0 0 0 [some (zrf p)] []) h hI0 hw0
  clear hI0 hw0
  generalize hR9 : ((S9, V) : (MS × Int32)) = R at hm
  unfold m_hasStopped at hm
  refine zQ.s (fun h => zs_aload_n (i := 0) o dX3_hasStopped_0 rfl rfl) ?_
  refine zQ.s (fun h => zs_iconst (v := 0) o dX3_hasStopped_1 (by decide)) ?_
  obtain ⟨S1, e_S1, hm⟩ := lt_e hm
  refine zm_putI o fl_X3_123_3 rfl rfl ⟨rfl, rfl⟩ dX3_hasStopped_2 e_S1 ?_
  refine zQ.s (fun h => zs_aload_n (i := 0) o dX3_hasStopped_5 rfl rfl) ?_
  refine zm_getI o fl_X3_147_3 rfl dX3_hasStopped_6 ?_
  obtain ⟨g2, hm⟩ := gd_e hm
  refine zm_reti o f dX3_hasStopped_9 (b01_e g2).1 (by omega) (by omega) ((so_e hm).trans hR9.symm)

def m_ends_2 (S : MS) : Option (MS × Int32) :=
  lt (tS S 54 (0 : Int32)) fun S1 =>
  some (S1, mS S1 46)

set_option maxHeartbeats 40000000 in
theorem M_ends_2 (G : zG) (p : Nat) (g : MG) (q n : Nat) (S : MS) (V : Int32) (S9 : MS) (hm : m_ends_2 S = some (S9, V)) : zMi G yX3_ends_2 cX3_ends_2 1 (some .int) 0 0 0 p g q n [] S V S9 := by
  intro h0 h hI0
  refine zCo.st [some (zrf p)] rfl rfl (by simp only [zarg_r, zarg_i, zarg_l, zarg_0]; rfl) (fun X o f0 hin hw0 => ?_)
  have f := f0.e
  refine (?_ : zQ (IM h0 p g q n S) G X 0 0 0 [some (zrf p)] []) h hI0 hw0
  clear hI0 hw0
  generalize hR9 : ((S9, V) : (MS × Int32)) = R at hm
  unfold m_ends_2 at hm
  refine zQ.s (fun h => zs_aload_n (i := 0) o dX3_ends_2_0 rfl rfl) ?_
  refine zQ.s (fun h => zs_iconst (v := 0) o dX3_ends_2_1 (by decide)) ?_
  obtain ⟨S1, e_S1, hm⟩ := lt_e hm
  refine zm_putI o fl_X3_123_3 rfl rfl ⟨rfl, rfl⟩ dX3_ends_2_2 e_S1 ?_
  refine zQ.s (fun h => zs_aload_n (i := 0) o dX3_ends_2_5 rfl rfl) ?_
  refine zm_getI o fl_X3_150_3 rfl dX3_ends_2_6 ?_
  refine zm_reti o f dX3_ends_2_9 rfl (by omega) (by omega) ((so_e hm).trans hR9.symm)

def m_noEnd_j35 (S : MS) (s0 : Int32) : Option (MS × Int32) :=
  gd (b01 s0) <|
  some (S, s0)
def m_noEnd_j20 (S : MS) (s1 : Int32) : Option (MS × Int32) :=
  lt (tS S 54 s1) fun S1 =>
  if (mS S1 54) ≤ (0 : Int32) then
    m_noEnd_j35 S1 (0 : Int32)
  else
    m_noEnd_j35 S1 (1 : Int32)
def m_noEnd (S : MS) (a1 : Int32) : Option (MS × Int32) :=
  bd (m_in a1 (0 : Int32) ((mS S 46) - (1 : Int32))) fun y1 =>
  if y1 = (0 : Int32) then
    m_noEnd_j20 S (1 : Int32)
  else
    m_noEnd_j20 S (0 : Int32)

set_option maxHeartbeats 40000000 in
theorem M_noEnd (G : zG) (p : Nat) (g : MG) (q n : Nat) (S : MS) (a1 : Int32) (V : Int32) (S9 : MS) (hm : m_noEnd S a1 = some (S9, V)) : zMi G yX3_noEnd cX3_noEnd 2 (some .boolean) 1 0 0 p g q n [.int a1] S V S9 := by
  intro h0 h hI0
  refine zCo.st [some (zrf p), some (.int a1)] rfl rfl (by simp only [zarg_r, zarg_i, zarg_l, zarg_0]; rfl) (fun X o f0 hin hw0 => ?_)
  have f := f0.e
  refine (?_ : zQ (IM h0 p g q n S) G X 0 0 0 [some (zrf p), some (.int a1)] []) h hI0 hw0
  clear hI0 hw0
  generalize hR9 : ((S9, V) : (MS × Int32)) = R at hm
  have hj35 : ∀ (S : MS) (s0 : Int32) (cl sl : Nat), cl + (0) ≤ 0 → sl + (0) ≤ 0 → m_noEnd_j35 S s0 = some R → zQ (IM h0 p g q n S) G X cl sl 35 [none, none] [.int s0] := by
    intro S s0 cl sl hc hs hm
    unfold m_noEnd_j35 at hm
    obtain ⟨g1, hm⟩ := gd_e hm
    refine zm_reti o f dX3_noEnd_35 (b01_e g1).1 (by omega) (by omega) ((so_e hm).trans hR9.symm)
  have hj20 : ∀ (S : MS) (s1 : Int32) (cl sl : Nat), cl + (0) ≤ 0 → sl + (0) ≤ 0 → m_noEnd_j20 S s1 = some R → zQ (IM h0 p g q n S) G X cl sl 20 [some (zrf p), none] [.int s1, zrf p] := by
    intro S s1 cl sl hc hs hm
    unfold m_noEnd_j20 at hm
    obtain ⟨S1, e_S1, hm⟩ := lt_e hm
    refine zm_putI o fl_X3_123_3 rfl rfl ⟨rfl, rfl⟩ dX3_noEnd_20 e_S1 ?_
    refine zQ.s (fun h => zs_aload_n (i := 0) o dX3_noEnd_23 rfl rfl) ?_
    refine zm_getI o fl_X3_123_3 rfl dX3_noEnd_24 ?_
    refine zQ.b (fun h => zs_if_le (tgt := 34) o dX3_noEnd_27 (by decide)) (fun c => ?_) (fun c => ?_)
    · have hm := if_e1 hm c
      refine zQ.s (fun h => zs_iconst (v := 0) o dX3_noEnd_34 (by decide)) ?_
      refine zQ.fg (zl_n (zl_n zl_0)) ?_
      exact hj35 _ _ _ _ (by omega) (by omega) hm
    · have hm := if_e2 hm c
      refine zQ.s (fun h => zs_iconst (v := 1) o dX3_noEnd_30 (by decide)) ?_
      refine zQ.s (fun h => zs_goto (tgt := 35) o dX3_noEnd_31 (by decide)) ?_
      refine zQ.fg (zl_n (zl_n zl_0)) ?_
      exact hj35 _ _ _ _ (by omega) (by omega) hm
  unfold m_noEnd at hm
  refine zQ.s (fun h => zs_aload_n (i := 0) o dX3_noEnd_0 rfl rfl) ?_
  refine zQ.s (fun h => zs_iload_n (i := 1) o dX3_noEnd_1 rfl rfl) ?_
  refine zQ.s (fun h => zs_iconst (v := 0) o dX3_noEnd_2 (by decide)) ?_
  refine zQ.s (fun h => zs_aload_n (i := 0) o dX3_noEnd_3 rfl rfl) ?_
  refine zm_getI o fl_X3_150_3 rfl dX3_noEnd_4 ?_
  refine zQ.s (fun h => zs_iconst (v := 1) o dX3_noEnd_7 (by decide)) ?_
  refine zQ.s (fun h => zs_isub o dX3_noEnd_8) ?_
  obtain ⟨y1, c_y1, hm⟩ := bd_e hm
  refine zQ_Si o ml_X3_129 (M_in G _ _ _ _ c_y1) dX3_noEnd_9 rfl rfl rfl rfl (by omega) (by omega) ?_
  refine zQ.b (fun h => zs_if_eq (tgt := 19) o dX3_noEnd_12 (by decide)) (fun c => ?_) (fun c => ?_)
  · have hm := if_e1 hm c
    refine zQ.s (fun h => zs_iconst (v := 1) o dX3_noEnd_19 (by decide)) ?_
    refine zQ.fg (zl_s (zl_n zl_0)) ?_
    exact hj20 _ _ _ _ (by omega) (by omega) hm
  · have hm := if_e2 hm c
    refine zQ.s (fun h => zs_iconst (v := 0) o dX3_noEnd_15 (by decide)) ?_
    refine zQ.s (fun h => zs_goto (tgt := 20) o dX3_noEnd_16 (by decide)) ?_
    refine zQ.fg (zl_s (zl_n zl_0)) ?_
    exact hj20 _ _ _ _ (by omega) (by omega) hm

def m_kindAt_j18 (S : MS) (s0 : Int32) : Option (MS × Int32) :=
  some (S, s0)
def m_kindAt (S : MS) (a1 : Int32) : Option (MS × Int32) :=
  bd (m_noEnd S a1) fun y1 =>
  if y1.2 = (0 : Int32) then
    gd (inb a1 2004) <|
    m_kindAt_j18 y1.1 (mA y1.1 43 (ix a1))
  else
    m_kindAt_j18 y1.1 (0 : Int32)

set_option maxHeartbeats 40000000 in
theorem M_kindAt (G : zG) (p : Nat) (g : MG) (q n : Nat) (S : MS) (a1 : Int32) (V : Int32) (S9 : MS) (hm : m_kindAt S a1 = some (S9, V)) : zMi G yX3_kindAt cX3_kindAt 2 (some .int) 2 0 0 p g q n [.int a1] S V S9 := by
  intro h0 h hI0
  refine zCo.st [some (zrf p), some (.int a1)] rfl rfl (by simp only [zarg_r, zarg_i, zarg_l, zarg_0]; rfl) (fun X o f0 hin hw0 => ?_)
  have f := f0.e
  refine (?_ : zQ (IM h0 p g q n S) G X 0 0 0 [some (zrf p), some (.int a1)] []) h hI0 hw0
  clear hI0 hw0
  generalize hR9 : ((S9, V) : (MS × Int32)) = R at hm
  have hj18 : ∀ (S : MS) (s0 : Int32) (cl sl : Nat), cl + (0) ≤ 0 → sl + (0) ≤ 0 → m_kindAt_j18 S s0 = some R → zQ (IM h0 p g q n S) G X cl sl 18 [none, none] [.int s0] := by
    intro S s0 cl sl hc hs hm
    unfold m_kindAt_j18 at hm
    refine zm_reti o f dX3_kindAt_18 rfl (by omega) (by omega) ((so_e hm).trans hR9.symm)
  unfold m_kindAt at hm
  refine zQ.s (fun h => zs_aload_n (i := 0) o dX3_kindAt_0 rfl rfl) ?_
  refine zQ.s (fun h => zs_iload_n (i := 1) o dX3_kindAt_1 rfl rfl) ?_
  obtain ⟨y1, c_y1, hm⟩ := bd_e hm
  refine zm_Vi o ml_X3_328 (M_noEnd G p g _ _ _ _ _ _ c_y1) dX3_kindAt_2 rfl rfl rfl rfl (by omega) (by omega) ?_
  refine zQ.b (fun h => zs_if_eq (tgt := 12) o dX3_kindAt_5 (by decide)) (fun c => ?_) (fun c => ?_)
  · have hm := if_e1 hm c
    refine zQ.s (fun h => zs_aload_n (i := 0) o dX3_kindAt_12 rfl rfl) ?_
    refine zm_getR o fl_X3_101_3 rfl dX3_kindAt_13 ?_
    refine zQ.s (fun h => zs_iload_n (i := 1) o dX3_kindAt_16 rfl rfl) ?_
    obtain ⟨g2, hm⟩ := gd_e hm
    refine zm_iald o rfl dX3_kindAt_17 g2 ?_
    refine zQ.fg (zl_n (zl_n zl_0)) ?_
    exact hj18 _ _ _ _ (by omega) (by omega) hm
  · have hm := if_e2 hm c
    refine zQ.s (fun h => zs_iconst (v := 0) o dX3_kindAt_8 (by decide)) ?_
    refine zQ.s (fun h => zs_goto (tgt := 18) o dX3_kindAt_9 (by decide)) ?_
    refine zQ.fg (zl_n (zl_n zl_0)) ?_
    exact hj18 _ _ _ _ (by omega) (by omega) hm

def m_placeAt_j18 (S : MS) (s0 : Int32) : Option (MS × Int32) :=
  some (S, s0)
def m_placeAt (S : MS) (a1 : Int32) : Option (MS × Int32) :=
  bd (m_noEnd S a1) fun y1 =>
  if y1.2 = (0 : Int32) then
    gd (inb a1 2004) <|
    m_placeAt_j18 y1.1 (mA y1.1 44 (ix a1))
  else
    m_placeAt_j18 y1.1 (0 : Int32)

set_option maxHeartbeats 40000000 in
theorem M_placeAt (G : zG) (p : Nat) (g : MG) (q n : Nat) (S : MS) (a1 : Int32) (V : Int32) (S9 : MS) (hm : m_placeAt S a1 = some (S9, V)) : zMi G yX3_placeAt cX3_placeAt 2 (some .int) 2 0 0 p g q n [.int a1] S V S9 := by
  intro h0 h hI0
  refine zCo.st [some (zrf p), some (.int a1)] rfl rfl (by simp only [zarg_r, zarg_i, zarg_l, zarg_0]; rfl) (fun X o f0 hin hw0 => ?_)
  have f := f0.e
  refine (?_ : zQ (IM h0 p g q n S) G X 0 0 0 [some (zrf p), some (.int a1)] []) h hI0 hw0
  clear hI0 hw0
  generalize hR9 : ((S9, V) : (MS × Int32)) = R at hm
  have hj18 : ∀ (S : MS) (s0 : Int32) (cl sl : Nat), cl + (0) ≤ 0 → sl + (0) ≤ 0 → m_placeAt_j18 S s0 = some R → zQ (IM h0 p g q n S) G X cl sl 18 [none, none] [.int s0] := by
    intro S s0 cl sl hc hs hm
    unfold m_placeAt_j18 at hm
    refine zm_reti o f dX3_placeAt_18 rfl (by omega) (by omega) ((so_e hm).trans hR9.symm)
  unfold m_placeAt at hm
  refine zQ.s (fun h => zs_aload_n (i := 0) o dX3_placeAt_0 rfl rfl) ?_
  refine zQ.s (fun h => zs_iload_n (i := 1) o dX3_placeAt_1 rfl rfl) ?_
  obtain ⟨y1, c_y1, hm⟩ := bd_e hm
  refine zm_Vi o ml_X3_328 (M_noEnd G p g _ _ _ _ _ _ c_y1) dX3_placeAt_2 rfl rfl rfl rfl (by omega) (by omega) ?_
  refine zQ.b (fun h => zs_if_eq (tgt := 12) o dX3_placeAt_5 (by decide)) (fun c => ?_) (fun c => ?_)
  · have hm := if_e1 hm c
    refine zQ.s (fun h => zs_aload_n (i := 0) o dX3_placeAt_12 rfl rfl) ?_
    refine zm_getR o fl_X3_104_3 rfl dX3_placeAt_13 ?_
    refine zQ.s (fun h => zs_iload_n (i := 1) o dX3_placeAt_16 rfl rfl) ?_
    obtain ⟨g2, hm⟩ := gd_e hm
    refine zm_iald o rfl dX3_placeAt_17 g2 ?_
    refine zQ.fg (zl_n (zl_n zl_0)) ?_
    exact hj18 _ _ _ _ (by omega) (by omega) hm
  · have hm := if_e2 hm c
    refine zQ.s (fun h => zs_iconst (v := 0) o dX3_placeAt_8 (by decide)) ?_
    refine zQ.s (fun h => zs_goto (tgt := 18) o dX3_placeAt_9 (by decide)) ?_
    refine zQ.fg (zl_n (zl_n zl_0)) ?_
    exact hj18 _ _ _ _ (by omega) (by omega) hm

def m_address (S : MS) (a1 : Int32) : Option (MS × Int32) :=
  gd (inb a1 64) <|
  gd (inb (mA S 2 (ix a1)) 8) <|
  gd (inb a1 64) <|
  some (S, (mA S 55 (ix (mA S 2 (ix a1)))) + (mA S 4 (ix a1)))

set_option maxHeartbeats 40000000 in
theorem M_address (G : zG) (p : Nat) (g : MG) (q n : Nat) (S : MS) (a1 : Int32) (V : Int32) (S9 : MS) (hm : m_address S a1 = some (S9, V)) : zMi G yX3_address cX3_address 2 (some .int) 0 0 0 p g q n [.int a1] S V S9 := by
  intro h0 h hI0
  refine zCo.st [some (zrf p), some (.int a1)] rfl rfl (by simp only [zarg_r, zarg_i, zarg_l, zarg_0]; rfl) (fun X o f0 hin hw0 => ?_)
  have f := f0.e
  refine (?_ : zQ (IM h0 p g q n S) G X 0 0 0 [some (zrf p), some (.int a1)] []) h hI0 hw0
  clear hI0 hw0
  generalize hR9 : ((S9, V) : (MS × Int32)) = R at hm
  unfold m_address at hm
  refine zQ.s (fun h => zs_aload_n (i := 0) o dX3_address_0 rfl rfl) ?_
  refine zm_getR o fl_X3_114_3 rfl dX3_address_1 ?_
  refine zQ.s (fun h => zs_aload_n (i := 0) o dX3_address_4 rfl rfl) ?_
  refine zm_getR o fl_X3_16_3 rfl dX3_address_5 ?_
  refine zQ.s (fun h => zs_iload_n (i := 1) o dX3_address_8 rfl rfl) ?_
  obtain ⟨g1, hm⟩ := gd_e hm
  refine zm_iald o rfl dX3_address_9 g1 ?_
  obtain ⟨g2, hm⟩ := gd_e hm
  refine zm_iald o rfl dX3_address_10 g2 ?_
  refine zQ.s (fun h => zs_aload_n (i := 0) o dX3_address_11 rfl rfl) ?_
  refine zm_getR o fl_X3_22_3 rfl dX3_address_12 ?_
  refine zQ.s (fun h => zs_iload_n (i := 1) o dX3_address_15 rfl rfl) ?_
  obtain ⟨g3, hm⟩ := gd_e hm
  refine zm_iald o rfl dX3_address_16 g3 ?_
  refine zQ.s (fun h => zs_iadd o dX3_address_17) ?_
  refine zm_reti o f dX3_address_18 rfl (by omega) (by omega) ((so_e hm).trans hR9.symm)

def m_plainTrap_j146 (S : MS) (s0 : Int32) : Option (MS × Int32) :=
  some (S, s0)
def m_plainTrap_j145 (S : MS) : Option (MS × Int32) :=
  m_plainTrap_j146 S (0 : Int32)
def m_plainTrap_j100 (S : MS) (x2 : Int32) (x4 : Int32) (x5 : Int32) : Option (MS × Int32) :=
  if x4 = (0 : Int32) then
    if x5 = (0 : Int32) then
      if x2 = (20 : Int32) then
        m_plainTrap_j146 S (4 : Int32)
      else
        if x2 = (21 : Int32) then
          if (mS S 59) = (0 : Int32) then
            m_plainTrap_j146 S (5 : Int32)
          else
            m_plainTrap_j145 S
        else
          m_plainTrap_j145 S
    else
      m_plainTrap_j146 S (3 : Int32)
  else
    m_plainTrap_j146 S (2 : Int32)
def m_plainTrap_j75 (S : MS) (x1 : Int32) (x2 : Int32) (x4 : Int32) (s0 : Int32) : Option (MS × Int32) :=
  if x2 = (5 : Int32) then
    gd (inb x1 64) <|
    gd (inb (mA S 3 (ix x1)) 8) <|
    if (mA S 55 (ix (mA S 3 (ix x1)))) = (0 : Int32) then
      m_plainTrap_j146 S (1 : Int32)
    else
      m_plainTrap_j100 S x2 x4 s0
  else
    m_plainTrap_j100 S x2 x4 s0
def m_plainTrap_j74 (S : MS) (x1 : Int32) (x2 : Int32) (x4 : Int32) : Option (MS × Int32) :=
  m_plainTrap_j75 S x1 x2 x4 (0 : Int32)
def m_plainTrap_j60 (S : MS) (x1 : Int32) (x2 : Int32) (x3 : Int32) (x4 : Int32) : Option (MS × Int32) :=
  bd (m_in x3 (0 : Int32) (63 : Int32)) fun y1 =>
  if y1 = (0 : Int32) then
    m_plainTrap_j75 S x1 x2 x4 (1 : Int32)
  else
    m_plainTrap_j74 S x1 x2 x4
def m_plainTrap_j46 (S : MS) (x1 : Int32) (x2 : Int32) (x3 : Int32) (s0 : Int32) : Option (MS × Int32) :=
  if x2 = (16 : Int32) then
    m_plainTrap_j60 S x1 x2 x3 s0
  else
    if x2 = (17 : Int32) then
      m_plainTrap_j60 S x1 x2 x3 s0
    else
      m_plainTrap_j74 S x1 x2 s0
def m_plainTrap_j45 (S : MS) (x1 : Int32) (x2 : Int32) (x3 : Int32) : Option (MS × Int32) :=
  m_plainTrap_j46 S x1 x2 x3 (0 : Int32)
def m_plainTrap (S : MS) (a1 : Int32) : Option (MS × Int32) :=
  gd (inb a1 64) <|
  lt (mA S 0 (ix a1)) fun v2 =>
  gd (inb a1 64) <|
  gd (inb (mA S 2 (ix a1)) 8) <|
  lt (mA S 55 (ix (mA S 2 (ix a1)))) fun v5 =>
  bd (m_in v2 (9 : Int32) (11 : Int32)) fun y6 =>
  if y6 = (0 : Int32) then
    m_plainTrap_j45 S a1 v2 v5
  else
    bd (m_address S a1) fun y7 =>
    bd (m_isAddress y7.2) fun y8 =>
    if y8 = (0 : Int32) then
      m_plainTrap_j46 y7.1 a1 v2 v5 (1 : Int32)
    else
      m_plainTrap_j45 y7.1 a1 v2 v5

set_option maxHeartbeats 40000000 in
theorem M_plainTrap (G : zG) (p : Nat) (g : MG) (q n : Nat) (S : MS) (a1 : Int32) (V : Int32) (S9 : MS) (hm : m_plainTrap S a1 = some (S9, V)) : zMi G yX3_plainTrap cX3_plainTrap 6 (some .int) 2 0 0 p g q n [.int a1] S V S9 := by
  intro h0 h hI0
  refine zCo.st [some (zrf p), some (.int a1), none, none, none, none] rfl rfl (by simp only [zarg_r, zarg_i, zarg_l, zarg_0]; rfl) (fun X o f0 hin hw0 => ?_)
  have f := f0.e
  refine (?_ : zQ (IM h0 p g q n S) G X 0 0 0 [some (zrf p), some (.int a1), none, none, none, none] []) h hI0 hw0
  clear hI0 hw0
  generalize hR9 : ((S9, V) : (MS × Int32)) = R at hm
  have hj146 : ∀ (S : MS) (s0 : Int32) (cl sl : Nat), cl + (0) ≤ 0 → sl + (0) ≤ 0 → m_plainTrap_j146 S s0 = some R → zQ (IM h0 p g q n S) G X cl sl 146 [none, none, none, none, none, none] [.int s0] := by
    intro S s0 cl sl hc hs hm
    unfold m_plainTrap_j146 at hm
    refine zm_reti o f dX3_plainTrap_146 rfl (by omega) (by omega) ((so_e hm).trans hR9.symm)
  have hj145 : ∀ (S : MS) (cl sl : Nat), cl + (0) ≤ 0 → sl + (0) ≤ 0 → m_plainTrap_j145 S = some R → zQ (IM h0 p g q n S) G X cl sl 145 [none, none, none, none, none, none] [] := by
    intro S cl sl hc hs hm
    unfold m_plainTrap_j145 at hm
    refine zQ.s (fun h => zs_iconst (v := 0) o dX3_plainTrap_145 (by decide)) ?_
    exact hj146 _ _ _ _ (by omega) (by omega) hm
  have hj100 : ∀ (S : MS) (x2 : Int32) (x4 : Int32) (x5 : Int32) (cl sl : Nat), cl + (0) ≤ 0 → sl + (0) ≤ 0 → m_plainTrap_j100 S x2 x4 x5 = some R → zQ (IM h0 p g q n S) G X cl sl 100 [some (zrf p), none, some (.int x2), none, some (.int x4), some (.int x5)] [] := by
    intro S x2 x4 x5 cl sl hc hs hm
    unfold m_plainTrap_j100 at hm
    refine zQ.s (fun h => zs_iload (i := 4) o dX3_plainTrap_100 rfl) ?_
    refine zQ.b (fun h => zs_if_eq (tgt := 109) o dX3_plainTrap_102 (by decide)) (fun c => ?_) (fun c => ?_)
    · have hm := if_e1 hm c
      refine zQ.s (fun h => zs_iload (i := 5) o dX3_plainTrap_109 rfl) ?_
      refine zQ.b (fun h => zs_if_eq (tgt := 118) o dX3_plainTrap_111 (by decide)) (fun c => ?_) (fun c => ?_)
      · have hm := if_e1 hm c
        refine zQ.s (fun h => zs_iload_n (i := 2) o dX3_plainTrap_118 rfl rfl) ?_
        refine zQ.s (fun h => zs_bipush (v := 20) o dX3_plainTrap_119 (by decide)) ?_
        refine zQ.b (fun h => zs_icmp_ne (tgt := 128) o dX3_plainTrap_121 (by decide)) (fun c => ?_) (fun c => ?_)
        · have hm := if_e2 hm c
          refine zQ.s (fun h => zs_iload_n (i := 2) o dX3_plainTrap_128 rfl rfl) ?_
          refine zQ.s (fun h => zs_bipush (v := 21) o dX3_plainTrap_129 (by decide)) ?_
          refine zQ.b (fun h => zs_icmp_ne (tgt := 145) o dX3_plainTrap_131 (by decide)) (fun c => ?_) (fun c => ?_)
          · have hm := if_e2 hm c
            refine zQ.fg (zl_n (zl_n (zl_n (zl_n (zl_n (zl_n zl_0)))))) ?_
            exact hj145 _ _ _ (by omega) (by omega) hm
          · have hm := if_e1 hm c
            refine zQ.s (fun h => zs_aload_n (i := 0) o dX3_plainTrap_134 rfl rfl) ?_
            refine zm_getI o fl_X3_334_3 rfl dX3_plainTrap_135 ?_
            refine zQ.b (fun h => zs_if_ne (tgt := 145) o dX3_plainTrap_138 (by decide)) (fun c => ?_) (fun c => ?_)
            · have hm := if_e2 hm c
              refine zQ.fg (zl_n (zl_n (zl_n (zl_n (zl_n (zl_n zl_0)))))) ?_
              exact hj145 _ _ _ (by omega) (by omega) hm
            · have hm := if_e1 hm c
              refine zQ.s (fun h => zs_iconst (v := 5) o dX3_plainTrap_141 (by decide)) ?_
              refine zQ.s (fun h => zs_goto (tgt := 146) o dX3_plainTrap_142 (by decide)) ?_
              refine zQ.fg (zl_n (zl_n (zl_n (zl_n (zl_n (zl_n zl_0)))))) ?_
              exact hj146 _ _ _ _ (by omega) (by omega) hm
        · have hm := if_e1 hm c
          refine zQ.s (fun h => zs_iconst (v := 4) o dX3_plainTrap_124 (by decide)) ?_
          refine zQ.s (fun h => zs_goto (tgt := 146) o dX3_plainTrap_125 (by decide)) ?_
          refine zQ.fg (zl_n (zl_n (zl_n (zl_n (zl_n (zl_n zl_0)))))) ?_
          exact hj146 _ _ _ _ (by omega) (by omega) hm
      · have hm := if_e2 hm c
        refine zQ.s (fun h => zs_iconst (v := 3) o dX3_plainTrap_114 (by decide)) ?_
        refine zQ.s (fun h => zs_goto (tgt := 146) o dX3_plainTrap_115 (by decide)) ?_
        refine zQ.fg (zl_n (zl_n (zl_n (zl_n (zl_n (zl_n zl_0)))))) ?_
        exact hj146 _ _ _ _ (by omega) (by omega) hm
    · have hm := if_e2 hm c
      refine zQ.s (fun h => zs_iconst (v := 2) o dX3_plainTrap_105 (by decide)) ?_
      refine zQ.s (fun h => zs_goto (tgt := 146) o dX3_plainTrap_106 (by decide)) ?_
      refine zQ.fg (zl_n (zl_n (zl_n (zl_n (zl_n (zl_n zl_0)))))) ?_
      exact hj146 _ _ _ _ (by omega) (by omega) hm
  have hj75 : ∀ (S : MS) (x1 : Int32) (x2 : Int32) (x4 : Int32) (s0 : Int32) (cl sl : Nat), cl + (0) ≤ 0 → sl + (0) ≤ 0 → m_plainTrap_j75 S x1 x2 x4 s0 = some R → zQ (IM h0 p g q n S) G X cl sl 75 [some (zrf p), some (.int x1), some (.int x2), none, some (.int x4), none] [.int s0] := by
    intro S x1 x2 x4 s0 cl sl hc hs hm
    unfold m_plainTrap_j75 at hm
    refine zQ.s (fun h => zs_istore (i := 5) o dX3_plainTrap_75 (by decide) (Or.inr rfl) (by simp only [List.set_cons_succ, List.set_cons_zero]; rfl)) ?_
    refine zQ.s (fun h => zs_iload_n (i := 2) o dX3_plainTrap_77 rfl rfl) ?_
    refine zQ.s (fun h => zs_iconst (v := 5) o dX3_plainTrap_78 (by decide)) ?_
    refine zQ.b (fun h => zs_icmp_ne (tgt := 100) o dX3_plainTrap_79 (by decide)) (fun c => ?_) (fun c => ?_)
    · have hm := if_e2 hm c
      refine zQ.fg (zl_s (zl_n (zl_s (zl_n (zl_s (zl_s zl_0)))))) ?_
      exact hj100 _ _ _ _ _ _ (by omega) (by omega) hm
    · have hm := if_e1 hm c
      refine zQ.s (fun h => zs_aload_n (i := 0) o dX3_plainTrap_82 rfl rfl) ?_
      refine zm_getR o fl_X3_114_3 rfl dX3_plainTrap_83 ?_
      refine zQ.s (fun h => zs_aload_n (i := 0) o dX3_plainTrap_86 rfl rfl) ?_
      refine zm_getR o fl_X3_19_3 rfl dX3_plainTrap_87 ?_
      refine zQ.s (fun h => zs_iload_n (i := 1) o dX3_plainTrap_90 rfl rfl) ?_
      obtain ⟨g1, hm⟩ := gd_e hm
      refine zm_iald o rfl dX3_plainTrap_91 g1 ?_
      obtain ⟨g2, hm⟩ := gd_e hm
      refine zm_iald o rfl dX3_plainTrap_92 g2 ?_
      refine zQ.b (fun h => zs_if_ne (tgt := 100) o dX3_plainTrap_93 (by decide)) (fun c => ?_) (fun c => ?_)
      · have hm := if_e2 hm c
        refine zQ.fg (zl_s (zl_n (zl_s (zl_n (zl_s (zl_s zl_0)))))) ?_
        exact hj100 _ _ _ _ _ _ (by omega) (by omega) hm
      · have hm := if_e1 hm c
        refine zQ.s (fun h => zs_iconst (v := 1) o dX3_plainTrap_96 (by decide)) ?_
        refine zQ.s (fun h => zs_goto (tgt := 146) o dX3_plainTrap_97 (by decide)) ?_
        refine zQ.fg (zl_n (zl_n (zl_n (zl_n (zl_n (zl_n zl_0)))))) ?_
        exact hj146 _ _ _ _ (by omega) (by omega) hm
  have hj74 : ∀ (S : MS) (x1 : Int32) (x2 : Int32) (x4 : Int32) (cl sl : Nat), cl + (0) ≤ 0 → sl + (0) ≤ 0 → m_plainTrap_j74 S x1 x2 x4 = some R → zQ (IM h0 p g q n S) G X cl sl 74 [some (zrf p), some (.int x1), some (.int x2), none, some (.int x4), none] [] := by
    intro S x1 x2 x4 cl sl hc hs hm
    unfold m_plainTrap_j74 at hm
    refine zQ.s (fun h => zs_iconst (v := 0) o dX3_plainTrap_74 (by decide)) ?_
    exact hj75 _ _ _ _ _ _ _ (by omega) (by omega) hm
  have hj60 : ∀ (S : MS) (x1 : Int32) (x2 : Int32) (x3 : Int32) (x4 : Int32) (cl sl : Nat), cl + (0) ≤ 0 → sl + (0) ≤ 0 → m_plainTrap_j60 S x1 x2 x3 x4 = some R → zQ (IM h0 p g q n S) G X cl sl 60 [some (zrf p), some (.int x1), some (.int x2), some (.int x3), some (.int x4), none] [] := by
    intro S x1 x2 x3 x4 cl sl hc hs hm
    unfold m_plainTrap_j60 at hm
    refine zQ.s (fun h => zs_iload_n (i := 3) o dX3_plainTrap_60 rfl rfl) ?_
    refine zQ.s (fun h => zs_iconst (v := 0) o dX3_plainTrap_61 (by decide)) ?_
    refine zQ.s (fun h => zs_bipush (v := 63) o dX3_plainTrap_62 (by decide)) ?_
    obtain ⟨y1, c_y1, hm⟩ := bd_e hm
    refine zQ_Si o ml_X3_129 (M_in G _ _ _ _ c_y1) dX3_plainTrap_64 rfl rfl rfl rfl (by omega) (by omega) ?_
    refine zQ.b (fun h => zs_if_ne (tgt := 74) o dX3_plainTrap_67 (by decide)) (fun c => ?_) (fun c => ?_)
    · have hm := if_e2 hm c
      refine zQ.fg (zl_s (zl_s (zl_s (zl_n (zl_s (zl_n zl_0)))))) ?_
      exact hj74 _ _ _ _ _ _ (by omega) (by omega) hm
    · have hm := if_e1 hm c
      refine zQ.s (fun h => zs_iconst (v := 1) o dX3_plainTrap_70 (by decide)) ?_
      refine zQ.s (fun h => zs_goto (tgt := 75) o dX3_plainTrap_71 (by decide)) ?_
      refine zQ.fg (zl_s (zl_s (zl_s (zl_n (zl_s (zl_n zl_0)))))) ?_
      exact hj75 _ _ _ _ _ _ _ (by omega) (by omega) hm
  have hj46 : ∀ (S : MS) (x1 : Int32) (x2 : Int32) (x3 : Int32) (s0 : Int32) (cl sl : Nat), cl + (0) ≤ 0 → sl + (0) ≤ 0 → m_plainTrap_j46 S x1 x2 x3 s0 = some R → zQ (IM h0 p g q n S) G X cl sl 46 [some (zrf p), some (.int x1), some (.int x2), some (.int x3), none, none] [.int s0] := by
    intro S x1 x2 x3 s0 cl sl hc hs hm
    unfold m_plainTrap_j46 at hm
    refine zQ.s (fun h => zs_istore (i := 4) o dX3_plainTrap_46 (by decide) (Or.inr rfl) (by simp only [List.set_cons_succ, List.set_cons_zero]; rfl)) ?_
    refine zQ.s (fun h => zs_iload_n (i := 2) o dX3_plainTrap_48 rfl rfl) ?_
    refine zQ.s (fun h => zs_bipush (v := 16) o dX3_plainTrap_49 (by decide)) ?_
    refine zQ.b (fun h => zs_icmp_eq (tgt := 60) o dX3_plainTrap_51 (by decide)) (fun c => ?_) (fun c => ?_)
    · have hm := if_e1 hm c
      exact hj60 _ _ _ _ _ _ _ (by omega) (by omega) hm
    · have hm := if_e2 hm c
      refine zQ.s (fun h => zs_iload_n (i := 2) o dX3_plainTrap_54 rfl rfl) ?_
      refine zQ.s (fun h => zs_bipush (v := 17) o dX3_plainTrap_55 (by decide)) ?_
      refine zQ.b (fun h => zs_icmp_ne (tgt := 74) o dX3_plainTrap_57 (by decide)) (fun c => ?_) (fun c => ?_)
      · have hm := if_e2 hm c
        refine zQ.fg (zl_s (zl_s (zl_s (zl_n (zl_s (zl_n zl_0)))))) ?_
        exact hj74 _ _ _ _ _ _ (by omega) (by omega) hm
      · have hm := if_e1 hm c
        exact hj60 _ _ _ _ _ _ _ (by omega) (by omega) hm
  have hj45 : ∀ (S : MS) (x1 : Int32) (x2 : Int32) (x3 : Int32) (cl sl : Nat), cl + (0) ≤ 0 → sl + (0) ≤ 0 → m_plainTrap_j45 S x1 x2 x3 = some R → zQ (IM h0 p g q n S) G X cl sl 45 [some (zrf p), some (.int x1), some (.int x2), some (.int x3), none, none] [] := by
    intro S x1 x2 x3 cl sl hc hs hm
    unfold m_plainTrap_j45 at hm
    refine zQ.s (fun h => zs_iconst (v := 0) o dX3_plainTrap_45 (by decide)) ?_
    exact hj46 _ _ _ _ _ _ _ (by omega) (by omega) hm
  unfold m_plainTrap at hm
  refine zQ.s (fun h => zs_aload_n (i := 0) o dX3_plainTrap_0 rfl rfl) ?_
  refine zm_getR o fl_X3_9_3 rfl dX3_plainTrap_1 ?_
  refine zQ.s (fun h => zs_iload_n (i := 1) o dX3_plainTrap_4 rfl rfl) ?_
  obtain ⟨g1, hm⟩ := gd_e hm
  refine zm_iald o rfl dX3_plainTrap_5 g1 ?_
  obtain ⟨v2, e_v2, hm⟩ := lt_e hm
  refine zQ.nmi e_v2 ?_
  refine zQ.s (fun h => zs_istore_n (i := 2) o dX3_plainTrap_6 rfl (by decide) (Or.inr rfl) (by simp only [List.set_cons_succ, List.set_cons_zero]; rfl)) ?_
  refine zQ.s (fun h => zs_aload_n (i := 0) o dX3_plainTrap_7 rfl rfl) ?_
  refine zm_getR o fl_X3_114_3 rfl dX3_plainTrap_8 ?_
  refine zQ.s (fun h => zs_aload_n (i := 0) o dX3_plainTrap_11 rfl rfl) ?_
  refine zm_getR o fl_X3_16_3 rfl dX3_plainTrap_12 ?_
  refine zQ.s (fun h => zs_iload_n (i := 1) o dX3_plainTrap_15 rfl rfl) ?_
  obtain ⟨g3, hm⟩ := gd_e hm
  refine zm_iald o rfl dX3_plainTrap_16 g3 ?_
  obtain ⟨g4, hm⟩ := gd_e hm
  refine zm_iald o rfl dX3_plainTrap_17 g4 ?_
  obtain ⟨v5, e_v5, hm⟩ := lt_e hm
  refine zQ.nmi e_v5 ?_
  refine zQ.s (fun h => zs_istore_n (i := 3) o dX3_plainTrap_18 rfl (by decide) (Or.inr rfl) (by simp only [List.set_cons_succ, List.set_cons_zero]; rfl)) ?_
  refine zQ.s (fun h => zs_iload_n (i := 2) o dX3_plainTrap_19 rfl rfl) ?_
  refine zQ.s (fun h => zs_bipush (v := 9) o dX3_plainTrap_20 (by decide)) ?_
  refine zQ.s (fun h => zs_bipush (v := 11) o dX3_plainTrap_22 (by decide)) ?_
  obtain ⟨y6, c_y6, hm⟩ := bd_e hm
  refine zQ_Si o ml_X3_129 (M_in G _ _ _ _ c_y6) dX3_plainTrap_24 rfl rfl rfl rfl (by omega) (by omega) ?_
  refine zQ.b (fun h => zs_if_eq (tgt := 45) o dX3_plainTrap_27 (by decide)) (fun c => ?_) (fun c => ?_)
  · have hm := if_e1 hm c
    exact hj45 _ _ _ _ _ _ (by omega) (by omega) hm
  · have hm := if_e2 hm c
    refine zQ.s (fun h => zs_aload_n (i := 0) o dX3_plainTrap_30 rfl rfl) ?_
    refine zQ.s (fun h => zs_iload_n (i := 1) o dX3_plainTrap_31 rfl rfl) ?_
    obtain ⟨y7, c_y7, hm⟩ := bd_e hm
    refine zm_Vi o ml_X3_331 (M_address G p g _ _ _ _ _ _ c_y7) dX3_plainTrap_32 rfl rfl rfl rfl (by omega) (by omega) ?_
    obtain ⟨y8, c_y8, hm⟩ := bd_e hm
    refine zQ_Si o ml_X3_225 (M_isAddress G _ _ c_y8) dX3_plainTrap_35 rfl rfl rfl rfl (by omega) (by omega) ?_
    refine zQ.b (fun h => zs_if_ne (tgt := 45) o dX3_plainTrap_38 (by decide)) (fun c => ?_) (fun c => ?_)
    · have hm := if_e2 hm c
      exact hj45 _ _ _ _ _ _ (by omega) (by omega) hm
    · have hm := if_e1 hm c
      refine zQ.s (fun h => zs_iconst (v := 1) o dX3_plainTrap_41 (by decide)) ?_
      refine zQ.s (fun h => zs_goto (tgt := 46) o dX3_plainTrap_42 (by decide)) ?_
      exact hj46 _ _ _ _ _ _ _ (by omega) (by omega) hm

def m_plainDoes_j443 (S : MS) : Option MS :=
  some S
def m_plainDoes_j269 (S : MS) (s2 : Int32) (s1 : Int32) : Option MS :=
  gd (inb s1 8) <|
  lt (tA S 55 (ix s1) s2) fun S2 =>
  m_plainDoes_j443 S2
def m_plainDoes_j354 (S : MS) (s1 : Int32) : Option MS :=
  lt (tS S 57 s1) fun S1 =>
  m_plainDoes_j443 S1
def m_plainDoes_j376 (S : MS) (s1 : Int32) : Option MS :=
  lt (tS S 57 s1) fun S1 =>
  m_plainDoes_j443 S1
def m_plainDoes (S : MS) (a1 : Int32) : Option MS :=
  gd (inb a1 64) <|
  lt (mA S 0 (ix a1)) fun v2 =>
  gd (inb a1 64) <|
  gd (inb (mA S 2 (ix a1)) 8) <|
  lt (mA S 55 (ix (mA S 2 (ix a1)))) fun v5 =>
  gd (inb a1 64) <|
  gd (inb (mA S 3 (ix a1)) 8) <|
  lt (mA S 55 (ix (mA S 3 (ix a1)))) fun v8 =>
  gd (inb a1 64) <|
  lt (mA S 1 (ix a1)) fun v10 =>
  gd (inb a1 64) <|
  lt (mA S 4 (ix a1)) fun v12 =>
  lt (tS S 57 (a1 + (1 : Int32))) fun S13 =>
  if v2 = (1 : Int32) then
    gd (inb v10 8) <|
    lt (tA S13 55 (ix v10) v12) fun S15 =>
    m_plainDoes_j443 S15
  else
  if v2 = (2 : Int32) then
    gd (inb v10 8) <|
    lt (tA S13 55 (ix v10) (v5 + v8)) fun S17 =>
    m_plainDoes_j443 S17
  else
  if v2 = (3 : Int32) then
    gd (inb v10 8) <|
    lt (tA S13 55 (ix v10) (v5 - v8)) fun S19 =>
    m_plainDoes_j443 S19
  else
  if v2 = (4 : Int32) then
    gd (inb v10 8) <|
    lt (tA S13 55 (ix v10) (v5 * v8)) fun S21 =>
    m_plainDoes_j443 S21
  else
  if v2 = (5 : Int32) then
    gd (nz v8) <|
    gd (inb v10 8) <|
    lt (tA S13 55 (ix v10) (v5 / v8)) fun S24 =>
    m_plainDoes_j443 S24
  else
  if v2 = (6 : Int32) then
    gd (inb v10 8) <|
    lt (tA S13 55 (ix v10) (v5 &&& v8)) fun S26 =>
    m_plainDoes_j443 S26
  else
  if v2 = (7 : Int32) then
    gd (inb v10 8) <|
    lt (tA S13 55 (ix v10) (v5 ^^^ v8)) fun S28 =>
    m_plainDoes_j443 S28
  else
  if v2 = (8 : Int32) then
    if v8 ≤ v5 then
      m_plainDoes_j269 S13 (0 : Int32) v10
    else
      m_plainDoes_j269 S13 (1 : Int32) v10
  else
  if v2 = (9 : Int32) then
    gd (inb (v5 + v12) 64) <|
    gd (inb v10 8) <|
    lt (tA S13 55 (ix v10) (mA S13 56 (ix (v5 + v12)))) fun S31 =>
    m_plainDoes_j443 S31
  else
  if v2 = (10 : Int32) then
    gd (inb (v5 + v12) 64) <|
    lt (tA S13 56 (ix (v5 + v12)) v8) fun S33 =>
    m_plainDoes_j443 S33
  else
  if v2 = (11 : Int32) then
    gd (inb (v5 + v12) 64) <|
    gd (inb (v5 + v12) 64) <|
    lt (tA S13 56 (ix (v5 + v12)) (((mA S13 56 (ix (v5 + v12))) &&& (-65536 : Int32)) ||| (v8 &&& (65535 : Int32)))) fun S36 =>
    m_plainDoes_j443 S36
  else
  if v2 = (12 : Int32) then
    if v5 = v8 then
      m_plainDoes_j354 S13 v12
    else
      m_plainDoes_j354 S13 (mS S13 57)
  else
  if v2 = (13 : Int32) then
    if v8 ≤ v5 then
      m_plainDoes_j376 S13 (mS S13 57)
    else
      m_plainDoes_j376 S13 v12
  else
  if v2 = (14 : Int32) then
    lt (tS S13 57 v12) fun S37 =>
    m_plainDoes_j443 S37
  else
  if v2 = (15 : Int32) then
    gd (inb v10 8) <|
    lt (tA S13 55 (ix v10) (mS S13 57)) fun S39 =>
    lt (tS S39 57 v12) fun S40 =>
    m_plainDoes_j443 S40
  else
  if v2 = (16 : Int32) then
    lt (tS S13 57 v5) fun S41 =>
    m_plainDoes_j443 S41
  else
  if v2 = (17 : Int32) then
    lt (tS S13 57 v5) fun S42 =>
    m_plainDoes_j443 S42
  else
  if v2 = (18 : Int32) then
    lt (tS S13 60 (1 : Int32)) fun S43 =>
    m_plainDoes_j443 S43
  else
  if v2 = (21 : Int32) then
    lt (tS S13 59 (0 : Int32)) fun S44 =>
    lt (tS S44 57 (mS S44 58)) fun S45 =>
    m_plainDoes_j443 S45
  else
  m_plainDoes_j443 S13

set_option maxHeartbeats 40000000 in
theorem M_plainDoes (G : zG) (p : Nat) (g : MG) (q n : Nat) (S : MS) (a1 : Int32) (S9 : MS) (hm : m_plainDoes S a1 = some S9) : zMv G yX3_plainDoes cX3_plainDoes 7 none 0 0 0 p g q n [.int a1] S S9 := by
  intro h0 h hI0
  refine zCo.st [some (zrf p), some (.int a1), none, none, none, none, none] rfl rfl (by simp only [zarg_r, zarg_i, zarg_l, zarg_0]; rfl) (fun X o f0 hin hw0 => ?_)
  have f := f0.e
  refine (?_ : zQ (IM h0 p g q n S) G X 0 0 0 [some (zrf p), some (.int a1), none, none, none, none, none] []) h hI0 hw0
  clear hI0 hw0
  generalize hR9 : (S9 : MS) = R at hm
  have hj443 : ∀ (S : MS) (cl sl : Nat), cl + (0) ≤ 0 → sl + (0) ≤ 0 → m_plainDoes_j443 S = some R → zQ (IM h0 p g q n S) G X cl sl 443 [none, none, none, none, none, none, none] [] := by
    intro S cl sl hc hs hm
    unfold m_plainDoes_j443 at hm
    refine zm_retv o f dX3_plainDoes_443 (by omega) (by omega) ((so_e hm).trans hR9.symm)
  have hj269 : ∀ (S : MS) (s2 : Int32) (s1 : Int32) (cl sl : Nat), cl + (0) ≤ 0 → sl + (0) ≤ 0 → m_plainDoes_j269 S s2 s1 = some R → zQ (IM h0 p g q n S) G X cl sl 269 [none, none, none, none, none, none, none] [.int s2, .int s1, zrf (g.1 55)] := by
    intro S s2 s1 cl sl hc hs hm
    unfold m_plainDoes_j269 at hm
    obtain ⟨g1, hm⟩ := gd_e hm
    obtain ⟨S2, e_S2, hm⟩ := lt_e hm
    refine zm_iast o rfl dX3_plainDoes_269 g1 e_S2 ?_
    refine zQ.s (fun h => zs_goto (tgt := 443) o dX3_plainDoes_270 (by decide)) ?_
    exact hj443 _ _ _ (by omega) (by omega) hm
  have hj354 : ∀ (S : MS) (s1 : Int32) (cl sl : Nat), cl + (0) ≤ 0 → sl + (0) ≤ 0 → m_plainDoes_j354 S s1 = some R → zQ (IM h0 p g q n S) G X cl sl 354 [none, none, none, none, none, none, none] [.int s1, zrf p] := by
    intro S s1 cl sl hc hs hm
    unfold m_plainDoes_j354 at hm
    obtain ⟨S1, e_S1, hm⟩ := lt_e hm
    refine zm_putI o fl_X3_337_3 rfl rfl ⟨rfl, rfl⟩ dX3_plainDoes_354 e_S1 ?_
    refine zQ.s (fun h => zs_goto (tgt := 443) o dX3_plainDoes_357 (by decide)) ?_
    exact hj443 _ _ _ (by omega) (by omega) hm
  have hj376 : ∀ (S : MS) (s1 : Int32) (cl sl : Nat), cl + (0) ≤ 0 → sl + (0) ≤ 0 → m_plainDoes_j376 S s1 = some R → zQ (IM h0 p g q n S) G X cl sl 376 [none, none, none, none, none, none, none] [.int s1, zrf p] := by
    intro S s1 cl sl hc hs hm
    unfold m_plainDoes_j376 at hm
    obtain ⟨S1, e_S1, hm⟩ := lt_e hm
    refine zm_putI o fl_X3_337_3 rfl rfl ⟨rfl, rfl⟩ dX3_plainDoes_376 e_S1 ?_
    refine zQ.s (fun h => zs_goto (tgt := 443) o dX3_plainDoes_379 (by decide)) ?_
    exact hj443 _ _ _ (by omega) (by omega) hm
  unfold m_plainDoes at hm
  refine zQ.s (fun h => zs_aload_n (i := 0) o dX3_plainDoes_0 rfl rfl) ?_
  refine zm_getR o fl_X3_9_3 rfl dX3_plainDoes_1 ?_
  refine zQ.s (fun h => zs_iload_n (i := 1) o dX3_plainDoes_4 rfl rfl) ?_
  obtain ⟨g1, hm⟩ := gd_e hm
  refine zm_iald o rfl dX3_plainDoes_5 g1 ?_
  obtain ⟨v2, e_v2, hm⟩ := lt_e hm
  refine zQ.nmi e_v2 ?_
  refine zQ.s (fun h => zs_istore_n (i := 2) o dX3_plainDoes_6 rfl (by decide) (Or.inr rfl) (by simp only [List.set_cons_succ, List.set_cons_zero]; rfl)) ?_
  refine zQ.s (fun h => zs_aload_n (i := 0) o dX3_plainDoes_7 rfl rfl) ?_
  refine zm_getR o fl_X3_114_3 rfl dX3_plainDoes_8 ?_
  refine zQ.s (fun h => zs_aload_n (i := 0) o dX3_plainDoes_11 rfl rfl) ?_
  refine zm_getR o fl_X3_16_3 rfl dX3_plainDoes_12 ?_
  refine zQ.s (fun h => zs_iload_n (i := 1) o dX3_plainDoes_15 rfl rfl) ?_
  obtain ⟨g3, hm⟩ := gd_e hm
  refine zm_iald o rfl dX3_plainDoes_16 g3 ?_
  obtain ⟨g4, hm⟩ := gd_e hm
  refine zm_iald o rfl dX3_plainDoes_17 g4 ?_
  obtain ⟨v5, e_v5, hm⟩ := lt_e hm
  refine zQ.nmi e_v5 ?_
  refine zQ.s (fun h => zs_istore_n (i := 3) o dX3_plainDoes_18 rfl (by decide) (Or.inr rfl) (by simp only [List.set_cons_succ, List.set_cons_zero]; rfl)) ?_
  refine zQ.s (fun h => zs_aload_n (i := 0) o dX3_plainDoes_19 rfl rfl) ?_
  refine zm_getR o fl_X3_114_3 rfl dX3_plainDoes_20 ?_
  refine zQ.s (fun h => zs_aload_n (i := 0) o dX3_plainDoes_23 rfl rfl) ?_
  refine zm_getR o fl_X3_19_3 rfl dX3_plainDoes_24 ?_
  refine zQ.s (fun h => zs_iload_n (i := 1) o dX3_plainDoes_27 rfl rfl) ?_
  obtain ⟨g6, hm⟩ := gd_e hm
  refine zm_iald o rfl dX3_plainDoes_28 g6 ?_
  obtain ⟨g7, hm⟩ := gd_e hm
  refine zm_iald o rfl dX3_plainDoes_29 g7 ?_
  obtain ⟨v8, e_v8, hm⟩ := lt_e hm
  refine zQ.nmi e_v8 ?_
  refine zQ.s (fun h => zs_istore (i := 4) o dX3_plainDoes_30 (by decide) (Or.inr rfl) (by simp only [List.set_cons_succ, List.set_cons_zero]; rfl)) ?_
  refine zQ.s (fun h => zs_aload_n (i := 0) o dX3_plainDoes_32 rfl rfl) ?_
  refine zm_getR o fl_X3_13_3 rfl dX3_plainDoes_33 ?_
  refine zQ.s (fun h => zs_iload_n (i := 1) o dX3_plainDoes_36 rfl rfl) ?_
  obtain ⟨g9, hm⟩ := gd_e hm
  refine zm_iald o rfl dX3_plainDoes_37 g9 ?_
  obtain ⟨v10, e_v10, hm⟩ := lt_e hm
  refine zQ.nmi e_v10 ?_
  refine zQ.s (fun h => zs_istore (i := 5) o dX3_plainDoes_38 (by decide) (Or.inr rfl) (by simp only [List.set_cons_succ, List.set_cons_zero]; rfl)) ?_
  refine zQ.s (fun h => zs_aload_n (i := 0) o dX3_plainDoes_40 rfl rfl) ?_
  refine zm_getR o fl_X3_22_3 rfl dX3_plainDoes_41 ?_
  refine zQ.s (fun h => zs_iload_n (i := 1) o dX3_plainDoes_44 rfl rfl) ?_
  obtain ⟨g11, hm⟩ := gd_e hm
  refine zm_iald o rfl dX3_plainDoes_45 g11 ?_
  obtain ⟨v12, e_v12, hm⟩ := lt_e hm
  refine zQ.nmi e_v12 ?_
  refine zQ.s (fun h => zs_istore (i := 6) o dX3_plainDoes_46 (by decide) (Or.inr rfl) (by simp only [List.set_cons_succ, List.set_cons_zero]; rfl)) ?_
  refine zQ.s (fun h => zs_aload_n (i := 0) o dX3_plainDoes_48 rfl rfl) ?_
  refine zQ.s (fun h => zs_iload_n (i := 1) o dX3_plainDoes_49 rfl rfl) ?_
  refine zQ.s (fun h => zs_iconst (v := 1) o dX3_plainDoes_50 (by decide)) ?_
  refine zQ.s (fun h => zs_iadd o dX3_plainDoes_51) ?_
  obtain ⟨S13, e_S13, hm⟩ := lt_e hm
  refine zm_putI o fl_X3_337_3 rfl rfl ⟨rfl, rfl⟩ dX3_plainDoes_52 e_S13 ?_
  refine zQ.s (fun h => zs_iload_n (i := 2) o dX3_plainDoes_55 rfl rfl) ?_
  by_cases c1 : v2 = (1 : Int32)
  · have hm := if_e1 hm c1
    refine zQ.s (fun h => zs_table (off := 100) (tgt := 156) o dX3_plainDoes_56 rfl (by decide) (ts_at c1 (by decide)) (by decide)) ?_
    refine zQ.s (fun h => zs_aload_n (i := 0) o dX3_plainDoes_156 rfl rfl) ?_
    refine zm_getR o fl_X3_114_3 rfl dX3_plainDoes_157 ?_
    refine zQ.s (fun h => zs_iload (i := 5) o dX3_plainDoes_160 rfl) ?_
    refine zQ.s (fun h => zs_iload (i := 6) o dX3_plainDoes_162 rfl) ?_
    obtain ⟨g14, hm⟩ := gd_e hm
    obtain ⟨S15, e_S15, hm⟩ := lt_e hm
    refine zm_iast o rfl dX3_plainDoes_164 g14 e_S15 ?_
    refine zQ.s (fun h => zs_goto (tgt := 443) o dX3_plainDoes_165 (by decide)) ?_
    refine zQ.fg (zl_n (zl_n (zl_n (zl_n (zl_n (zl_n (zl_n zl_0))))))) ?_
    exact hj443 _ _ _ (by omega) (by omega) hm
  have hm := if_e2 hm c1
  by_cases c2 : v2 = (2 : Int32)
  · have hm := if_e1 hm c2
    refine zQ.s (fun h => zs_table (off := 112) (tgt := 168) o dX3_plainDoes_56 rfl (by decide) (ts_at c2 (by decide)) (by decide)) ?_
    refine zQ.s (fun h => zs_aload_n (i := 0) o dX3_plainDoes_168 rfl rfl) ?_
    refine zm_getR o fl_X3_114_3 rfl dX3_plainDoes_169 ?_
    refine zQ.s (fun h => zs_iload (i := 5) o dX3_plainDoes_172 rfl) ?_
    refine zQ.s (fun h => zs_iload_n (i := 3) o dX3_plainDoes_174 rfl rfl) ?_
    refine zQ.s (fun h => zs_iload (i := 4) o dX3_plainDoes_175 rfl) ?_
    refine zQ.s (fun h => zs_iadd o dX3_plainDoes_177) ?_
    obtain ⟨g16, hm⟩ := gd_e hm
    obtain ⟨S17, e_S17, hm⟩ := lt_e hm
    refine zm_iast o rfl dX3_plainDoes_178 g16 e_S17 ?_
    refine zQ.s (fun h => zs_goto (tgt := 443) o dX3_plainDoes_179 (by decide)) ?_
    refine zQ.fg (zl_n (zl_n (zl_n (zl_n (zl_n (zl_n (zl_n zl_0))))))) ?_
    exact hj443 _ _ _ (by omega) (by omega) hm
  have hm := if_e2 hm c2
  by_cases c3 : v2 = (3 : Int32)
  · have hm := if_e1 hm c3
    refine zQ.s (fun h => zs_table (off := 126) (tgt := 182) o dX3_plainDoes_56 rfl (by decide) (ts_at c3 (by decide)) (by decide)) ?_
    refine zQ.s (fun h => zs_aload_n (i := 0) o dX3_plainDoes_182 rfl rfl) ?_
    refine zm_getR o fl_X3_114_3 rfl dX3_plainDoes_183 ?_
    refine zQ.s (fun h => zs_iload (i := 5) o dX3_plainDoes_186 rfl) ?_
    refine zQ.s (fun h => zs_iload_n (i := 3) o dX3_plainDoes_188 rfl rfl) ?_
    refine zQ.s (fun h => zs_iload (i := 4) o dX3_plainDoes_189 rfl) ?_
    refine zQ.s (fun h => zs_isub o dX3_plainDoes_191) ?_
    obtain ⟨g18, hm⟩ := gd_e hm
    obtain ⟨S19, e_S19, hm⟩ := lt_e hm
    refine zm_iast o rfl dX3_plainDoes_192 g18 e_S19 ?_
    refine zQ.s (fun h => zs_goto (tgt := 443) o dX3_plainDoes_193 (by decide)) ?_
    refine zQ.fg (zl_n (zl_n (zl_n (zl_n (zl_n (zl_n (zl_n zl_0))))))) ?_
    exact hj443 _ _ _ (by omega) (by omega) hm
  have hm := if_e2 hm c3
  by_cases c4 : v2 = (4 : Int32)
  · have hm := if_e1 hm c4
    refine zQ.s (fun h => zs_table (off := 140) (tgt := 196) o dX3_plainDoes_56 rfl (by decide) (ts_at c4 (by decide)) (by decide)) ?_
    refine zQ.s (fun h => zs_aload_n (i := 0) o dX3_plainDoes_196 rfl rfl) ?_
    refine zm_getR o fl_X3_114_3 rfl dX3_plainDoes_197 ?_
    refine zQ.s (fun h => zs_iload (i := 5) o dX3_plainDoes_200 rfl) ?_
    refine zQ.s (fun h => zs_iload_n (i := 3) o dX3_plainDoes_202 rfl rfl) ?_
    refine zQ.s (fun h => zs_iload (i := 4) o dX3_plainDoes_203 rfl) ?_
    refine zQ.s (fun h => zs_imul o dX3_plainDoes_205) ?_
    obtain ⟨g20, hm⟩ := gd_e hm
    obtain ⟨S21, e_S21, hm⟩ := lt_e hm
    refine zm_iast o rfl dX3_plainDoes_206 g20 e_S21 ?_
    refine zQ.s (fun h => zs_goto (tgt := 443) o dX3_plainDoes_207 (by decide)) ?_
    refine zQ.fg (zl_n (zl_n (zl_n (zl_n (zl_n (zl_n (zl_n zl_0))))))) ?_
    exact hj443 _ _ _ (by omega) (by omega) hm
  have hm := if_e2 hm c4
  by_cases c5 : v2 = (5 : Int32)
  · have hm := if_e1 hm c5
    refine zQ.s (fun h => zs_table (off := 154) (tgt := 210) o dX3_plainDoes_56 rfl (by decide) (ts_at c5 (by decide)) (by decide)) ?_
    refine zQ.s (fun h => zs_aload_n (i := 0) o dX3_plainDoes_210 rfl rfl) ?_
    refine zm_getR o fl_X3_114_3 rfl dX3_plainDoes_211 ?_
    refine zQ.s (fun h => zs_iload (i := 5) o dX3_plainDoes_214 rfl) ?_
    refine zQ.s (fun h => zs_iload_n (i := 3) o dX3_plainDoes_216 rfl rfl) ?_
    refine zQ.s (fun h => zs_iload (i := 4) o dX3_plainDoes_217 rfl) ?_
    obtain ⟨g22, hm⟩ := gd_e hm
    refine zQ.s (fun h => zs_idiv o dX3_plainDoes_219 (nz_e g22)) ?_
    obtain ⟨g23, hm⟩ := gd_e hm
    obtain ⟨S24, e_S24, hm⟩ := lt_e hm
    refine zm_iast o rfl dX3_plainDoes_220 g23 e_S24 ?_
    refine zQ.s (fun h => zs_goto (tgt := 443) o dX3_plainDoes_221 (by decide)) ?_
    refine zQ.fg (zl_n (zl_n (zl_n (zl_n (zl_n (zl_n (zl_n zl_0))))))) ?_
    exact hj443 _ _ _ (by omega) (by omega) hm
  have hm := if_e2 hm c5
  by_cases c6 : v2 = (6 : Int32)
  · have hm := if_e1 hm c6
    refine zQ.s (fun h => zs_table (off := 168) (tgt := 224) o dX3_plainDoes_56 rfl (by decide) (ts_at c6 (by decide)) (by decide)) ?_
    refine zQ.s (fun h => zs_aload_n (i := 0) o dX3_plainDoes_224 rfl rfl) ?_
    refine zm_getR o fl_X3_114_3 rfl dX3_plainDoes_225 ?_
    refine zQ.s (fun h => zs_iload (i := 5) o dX3_plainDoes_228 rfl) ?_
    refine zQ.s (fun h => zs_iload_n (i := 3) o dX3_plainDoes_230 rfl rfl) ?_
    refine zQ.s (fun h => zs_iload (i := 4) o dX3_plainDoes_231 rfl) ?_
    refine zQ.s (fun h => zs_iand o dX3_plainDoes_233) ?_
    obtain ⟨g25, hm⟩ := gd_e hm
    obtain ⟨S26, e_S26, hm⟩ := lt_e hm
    refine zm_iast o rfl dX3_plainDoes_234 g25 e_S26 ?_
    refine zQ.s (fun h => zs_goto (tgt := 443) o dX3_plainDoes_235 (by decide)) ?_
    refine zQ.fg (zl_n (zl_n (zl_n (zl_n (zl_n (zl_n (zl_n zl_0))))))) ?_
    exact hj443 _ _ _ (by omega) (by omega) hm
  have hm := if_e2 hm c6
  by_cases c7 : v2 = (7 : Int32)
  · have hm := if_e1 hm c7
    refine zQ.s (fun h => zs_table (off := 182) (tgt := 238) o dX3_plainDoes_56 rfl (by decide) (ts_at c7 (by decide)) (by decide)) ?_
    refine zQ.s (fun h => zs_aload_n (i := 0) o dX3_plainDoes_238 rfl rfl) ?_
    refine zm_getR o fl_X3_114_3 rfl dX3_plainDoes_239 ?_
    refine zQ.s (fun h => zs_iload (i := 5) o dX3_plainDoes_242 rfl) ?_
    refine zQ.s (fun h => zs_iload_n (i := 3) o dX3_plainDoes_244 rfl rfl) ?_
    refine zQ.s (fun h => zs_iload (i := 4) o dX3_plainDoes_245 rfl) ?_
    refine zQ.s (fun h => zs_ixor o dX3_plainDoes_247) ?_
    obtain ⟨g27, hm⟩ := gd_e hm
    obtain ⟨S28, e_S28, hm⟩ := lt_e hm
    refine zm_iast o rfl dX3_plainDoes_248 g27 e_S28 ?_
    refine zQ.s (fun h => zs_goto (tgt := 443) o dX3_plainDoes_249 (by decide)) ?_
    refine zQ.fg (zl_n (zl_n (zl_n (zl_n (zl_n (zl_n (zl_n zl_0))))))) ?_
    exact hj443 _ _ _ (by omega) (by omega) hm
  have hm := if_e2 hm c7
  by_cases c8 : v2 = (8 : Int32)
  · have hm := if_e1 hm c8
    refine zQ.s (fun h => zs_table (off := 196) (tgt := 252) o dX3_plainDoes_56 rfl (by decide) (ts_at c8 (by decide)) (by decide)) ?_
    refine zQ.s (fun h => zs_aload_n (i := 0) o dX3_plainDoes_252 rfl rfl) ?_
    refine zm_getR o fl_X3_114_3 rfl dX3_plainDoes_253 ?_
    refine zQ.s (fun h => zs_iload (i := 5) o dX3_plainDoes_256 rfl) ?_
    refine zQ.s (fun h => zs_iload_n (i := 3) o dX3_plainDoes_258 rfl rfl) ?_
    refine zQ.s (fun h => zs_iload (i := 4) o dX3_plainDoes_259 rfl) ?_
    refine zQ.b (fun h => zs_icmp_ge (tgt := 268) o dX3_plainDoes_261 (by decide)) (fun c => ?_) (fun c => ?_)
    · have hm := if_e1 hm c
      refine zQ.s (fun h => zs_iconst (v := 0) o dX3_plainDoes_268 (by decide)) ?_
      refine zQ.fg (zl_n (zl_n (zl_n (zl_n (zl_n (zl_n (zl_n zl_0))))))) ?_
      exact hj269 _ _ _ _ _ (by omega) (by omega) hm
    · have hm := if_e2 hm c
      refine zQ.s (fun h => zs_iconst (v := 1) o dX3_plainDoes_264 (by decide)) ?_
      refine zQ.s (fun h => zs_goto (tgt := 269) o dX3_plainDoes_265 (by decide)) ?_
      refine zQ.fg (zl_n (zl_n (zl_n (zl_n (zl_n (zl_n (zl_n zl_0))))))) ?_
      exact hj269 _ _ _ _ _ (by omega) (by omega) hm
  have hm := if_e2 hm c8
  by_cases c9 : v2 = (9 : Int32)
  · have hm := if_e1 hm c9
    refine zQ.s (fun h => zs_table (off := 217) (tgt := 273) o dX3_plainDoes_56 rfl (by decide) (ts_at c9 (by decide)) (by decide)) ?_
    refine zQ.s (fun h => zs_aload_n (i := 0) o dX3_plainDoes_273 rfl rfl) ?_
    refine zm_getR o fl_X3_114_3 rfl dX3_plainDoes_274 ?_
    refine zQ.s (fun h => zs_iload (i := 5) o dX3_plainDoes_277 rfl) ?_
    refine zQ.s (fun h => zs_aload_n (i := 0) o dX3_plainDoes_279 rfl rfl) ?_
    refine zm_getR o fl_X3_117_3 rfl dX3_plainDoes_280 ?_
    refine zQ.s (fun h => zs_iload_n (i := 3) o dX3_plainDoes_283 rfl rfl) ?_
    refine zQ.s (fun h => zs_iload (i := 6) o dX3_plainDoes_284 rfl) ?_
    refine zQ.s (fun h => zs_iadd o dX3_plainDoes_286) ?_
    obtain ⟨g29, hm⟩ := gd_e hm
    refine zm_iald o rfl dX3_plainDoes_287 g29 ?_
    obtain ⟨g30, hm⟩ := gd_e hm
    obtain ⟨S31, e_S31, hm⟩ := lt_e hm
    refine zm_iast o rfl dX3_plainDoes_288 g30 e_S31 ?_
    refine zQ.s (fun h => zs_goto (tgt := 443) o dX3_plainDoes_289 (by decide)) ?_
    refine zQ.fg (zl_n (zl_n (zl_n (zl_n (zl_n (zl_n (zl_n zl_0))))))) ?_
    exact hj443 _ _ _ (by omega) (by omega) hm
  have hm := if_e2 hm c9
  by_cases c10 : v2 = (10 : Int32)
  · have hm := if_e1 hm c10
    refine zQ.s (fun h => zs_table (off := 236) (tgt := 292) o dX3_plainDoes_56 rfl (by decide) (ts_at c10 (by decide)) (by decide)) ?_
    refine zQ.s (fun h => zs_aload_n (i := 0) o dX3_plainDoes_292 rfl rfl) ?_
    refine zm_getR o fl_X3_117_3 rfl dX3_plainDoes_293 ?_
    refine zQ.s (fun h => zs_iload_n (i := 3) o dX3_plainDoes_296 rfl rfl) ?_
    refine zQ.s (fun h => zs_iload (i := 6) o dX3_plainDoes_297 rfl) ?_
    refine zQ.s (fun h => zs_iadd o dX3_plainDoes_299) ?_
    refine zQ.s (fun h => zs_iload (i := 4) o dX3_plainDoes_300 rfl) ?_
    obtain ⟨g32, hm⟩ := gd_e hm
    obtain ⟨S33, e_S33, hm⟩ := lt_e hm
    refine zm_iast o rfl dX3_plainDoes_302 g32 e_S33 ?_
    refine zQ.s (fun h => zs_goto (tgt := 443) o dX3_plainDoes_303 (by decide)) ?_
    refine zQ.fg (zl_n (zl_n (zl_n (zl_n (zl_n (zl_n (zl_n zl_0))))))) ?_
    exact hj443 _ _ _ (by omega) (by omega) hm
  have hm := if_e2 hm c10
  by_cases c11 : v2 = (11 : Int32)
  · have hm := if_e1 hm c11
    refine zQ.s (fun h => zs_table (off := 250) (tgt := 306) o dX3_plainDoes_56 rfl (by decide) (ts_at c11 (by decide)) (by decide)) ?_
    refine zQ.s (fun h => zs_aload_n (i := 0) o dX3_plainDoes_306 rfl rfl) ?_
    refine zm_getR o fl_X3_117_3 rfl dX3_plainDoes_307 ?_
    refine zQ.s (fun h => zs_iload_n (i := 3) o dX3_plainDoes_310 rfl rfl) ?_
    refine zQ.s (fun h => zs_iload (i := 6) o dX3_plainDoes_311 rfl) ?_
    refine zQ.s (fun h => zs_iadd o dX3_plainDoes_313) ?_
    refine zQ.s (fun h => zs_aload_n (i := 0) o dX3_plainDoes_314 rfl rfl) ?_
    refine zm_getR o fl_X3_117_3 rfl dX3_plainDoes_315 ?_
    refine zQ.s (fun h => zs_iload_n (i := 3) o dX3_plainDoes_318 rfl rfl) ?_
    refine zQ.s (fun h => zs_iload (i := 6) o dX3_plainDoes_319 rfl) ?_
    refine zQ.s (fun h => zs_iadd o dX3_plainDoes_321) ?_
    obtain ⟨g34, hm⟩ := gd_e hm
    refine zm_iald o rfl dX3_plainDoes_322 g34 ?_
    refine zQ.s (fun h => zs_ldcw o q2852 dX3_plainDoes_323) ?_
    refine zQ.s (fun h => zs_iand o dX3_plainDoes_326) ?_
    refine zQ.s (fun h => zs_iload (i := 4) o dX3_plainDoes_327 rfl) ?_
    refine zQ.s (fun h => zs_ldcw o q2853 dX3_plainDoes_329) ?_
    refine zQ.s (fun h => zs_iand o dX3_plainDoes_332) ?_
    refine zQ.s (fun h => zs_ior o dX3_plainDoes_333) ?_
    obtain ⟨g35, hm⟩ := gd_e hm
    obtain ⟨S36, e_S36, hm⟩ := lt_e hm
    refine zm_iast o rfl dX3_plainDoes_334 g35 e_S36 ?_
    refine zQ.s (fun h => zs_goto (tgt := 443) o dX3_plainDoes_335 (by decide)) ?_
    refine zQ.fg (zl_n (zl_n (zl_n (zl_n (zl_n (zl_n (zl_n zl_0))))))) ?_
    exact hj443 _ _ _ (by omega) (by omega) hm
  have hm := if_e2 hm c11
  by_cases c12 : v2 = (12 : Int32)
  · have hm := if_e1 hm c12
    refine zQ.s (fun h => zs_table (off := 282) (tgt := 338) o dX3_plainDoes_56 rfl (by decide) (ts_at c12 (by decide)) (by decide)) ?_
    refine zQ.s (fun h => zs_aload_n (i := 0) o dX3_plainDoes_338 rfl rfl) ?_
    refine zQ.s (fun h => zs_iload_n (i := 3) o dX3_plainDoes_339 rfl rfl) ?_
    refine zQ.s (fun h => zs_iload (i := 4) o dX3_plainDoes_340 rfl) ?_
    refine zQ.b (fun h => zs_icmp_ne (tgt := 350) o dX3_plainDoes_342 (by decide)) (fun c => ?_) (fun c => ?_)
    · have hm := if_e2 hm c
      refine zQ.s (fun h => zs_aload_n (i := 0) o dX3_plainDoes_350 rfl rfl) ?_
      refine zm_getI o fl_X3_337_3 rfl dX3_plainDoes_351 ?_
      refine zQ.fg (zl_n (zl_n (zl_n (zl_n (zl_n (zl_n (zl_n zl_0))))))) ?_
      exact hj354 _ _ _ _ (by omega) (by omega) hm
    · have hm := if_e1 hm c
      refine zQ.s (fun h => zs_iload (i := 6) o dX3_plainDoes_345 rfl) ?_
      refine zQ.s (fun h => zs_goto (tgt := 354) o dX3_plainDoes_347 (by decide)) ?_
      refine zQ.fg (zl_n (zl_n (zl_n (zl_n (zl_n (zl_n (zl_n zl_0))))))) ?_
      exact hj354 _ _ _ _ (by omega) (by omega) hm
  have hm := if_e2 hm c12
  by_cases c13 : v2 = (13 : Int32)
  · have hm := if_e1 hm c13
    refine zQ.s (fun h => zs_table (off := 304) (tgt := 360) o dX3_plainDoes_56 rfl (by decide) (ts_at c13 (by decide)) (by decide)) ?_
    refine zQ.s (fun h => zs_aload_n (i := 0) o dX3_plainDoes_360 rfl rfl) ?_
    refine zQ.s (fun h => zs_iload_n (i := 3) o dX3_plainDoes_361 rfl rfl) ?_
    refine zQ.s (fun h => zs_iload (i := 4) o dX3_plainDoes_362 rfl) ?_
    refine zQ.b (fun h => zs_icmp_ge (tgt := 372) o dX3_plainDoes_364 (by decide)) (fun c => ?_) (fun c => ?_)
    · have hm := if_e1 hm c
      refine zQ.s (fun h => zs_aload_n (i := 0) o dX3_plainDoes_372 rfl rfl) ?_
      refine zm_getI o fl_X3_337_3 rfl dX3_plainDoes_373 ?_
      refine zQ.fg (zl_n (zl_n (zl_n (zl_n (zl_n (zl_n (zl_n zl_0))))))) ?_
      exact hj376 _ _ _ _ (by omega) (by omega) hm
    · have hm := if_e2 hm c
      refine zQ.s (fun h => zs_iload (i := 6) o dX3_plainDoes_367 rfl) ?_
      refine zQ.s (fun h => zs_goto (tgt := 376) o dX3_plainDoes_369 (by decide)) ?_
      refine zQ.fg (zl_n (zl_n (zl_n (zl_n (zl_n (zl_n (zl_n zl_0))))))) ?_
      exact hj376 _ _ _ _ (by omega) (by omega) hm
  have hm := if_e2 hm c13
  by_cases c14 : v2 = (14 : Int32)
  · have hm := if_e1 hm c14
    refine zQ.s (fun h => zs_table (off := 326) (tgt := 382) o dX3_plainDoes_56 rfl (by decide) (ts_at c14 (by decide)) (by decide)) ?_
    refine zQ.s (fun h => zs_aload_n (i := 0) o dX3_plainDoes_382 rfl rfl) ?_
    refine zQ.s (fun h => zs_iload (i := 6) o dX3_plainDoes_383 rfl) ?_
    obtain ⟨S37, e_S37, hm⟩ := lt_e hm
    refine zm_putI o fl_X3_337_3 rfl rfl ⟨rfl, rfl⟩ dX3_plainDoes_385 e_S37 ?_
    refine zQ.s (fun h => zs_goto (tgt := 443) o dX3_plainDoes_388 (by decide)) ?_
    refine zQ.fg (zl_n (zl_n (zl_n (zl_n (zl_n (zl_n (zl_n zl_0))))))) ?_
    exact hj443 _ _ _ (by omega) (by omega) hm
  have hm := if_e2 hm c14
  by_cases c15 : v2 = (15 : Int32)
  · have hm := if_e1 hm c15
    refine zQ.s (fun h => zs_table (off := 335) (tgt := 391) o dX3_plainDoes_56 rfl (by decide) (ts_at c15 (by decide)) (by decide)) ?_
    refine zQ.s (fun h => zs_aload_n (i := 0) o dX3_plainDoes_391 rfl rfl) ?_
    refine zm_getR o fl_X3_114_3 rfl dX3_plainDoes_392 ?_
    refine zQ.s (fun h => zs_iload (i := 5) o dX3_plainDoes_395 rfl) ?_
    refine zQ.s (fun h => zs_aload_n (i := 0) o dX3_plainDoes_397 rfl rfl) ?_
    refine zm_getI o fl_X3_337_3 rfl dX3_plainDoes_398 ?_
    obtain ⟨g38, hm⟩ := gd_e hm
    obtain ⟨S39, e_S39, hm⟩ := lt_e hm
    refine zm_iast o rfl dX3_plainDoes_401 g38 e_S39 ?_
    refine zQ.s (fun h => zs_aload_n (i := 0) o dX3_plainDoes_402 rfl rfl) ?_
    refine zQ.s (fun h => zs_iload (i := 6) o dX3_plainDoes_403 rfl) ?_
    obtain ⟨S40, e_S40, hm⟩ := lt_e hm
    refine zm_putI o fl_X3_337_3 rfl rfl ⟨rfl, rfl⟩ dX3_plainDoes_405 e_S40 ?_
    refine zQ.s (fun h => zs_goto (tgt := 443) o dX3_plainDoes_408 (by decide)) ?_
    refine zQ.fg (zl_n (zl_n (zl_n (zl_n (zl_n (zl_n (zl_n zl_0))))))) ?_
    exact hj443 _ _ _ (by omega) (by omega) hm
  have hm := if_e2 hm c15
  by_cases c16 : v2 = (16 : Int32)
  · have hm := if_e1 hm c16
    refine zQ.s (fun h => zs_table (off := 355) (tgt := 411) o dX3_plainDoes_56 rfl (by decide) (ts_at c16 (by decide)) (by decide)) ?_
    refine zQ.s (fun h => zs_aload_n (i := 0) o dX3_plainDoes_411 rfl rfl) ?_
    refine zQ.s (fun h => zs_iload_n (i := 3) o dX3_plainDoes_412 rfl rfl) ?_
    obtain ⟨S41, e_S41, hm⟩ := lt_e hm
    refine zm_putI o fl_X3_337_3 rfl rfl ⟨rfl, rfl⟩ dX3_plainDoes_413 e_S41 ?_
    refine zQ.s (fun h => zs_goto (tgt := 443) o dX3_plainDoes_416 (by decide)) ?_
    refine zQ.fg (zl_n (zl_n (zl_n (zl_n (zl_n (zl_n (zl_n zl_0))))))) ?_
    exact hj443 _ _ _ (by omega) (by omega) hm
  have hm := if_e2 hm c16
  by_cases c17 : v2 = (17 : Int32)
  · have hm := if_e1 hm c17
    refine zQ.s (fun h => zs_table (off := 355) (tgt := 411) o dX3_plainDoes_56 rfl (by decide) (ts_at c17 (by decide)) (by decide)) ?_
    refine zQ.s (fun h => zs_aload_n (i := 0) o dX3_plainDoes_411 rfl rfl) ?_
    refine zQ.s (fun h => zs_iload_n (i := 3) o dX3_plainDoes_412 rfl rfl) ?_
    obtain ⟨S42, e_S42, hm⟩ := lt_e hm
    refine zm_putI o fl_X3_337_3 rfl rfl ⟨rfl, rfl⟩ dX3_plainDoes_413 e_S42 ?_
    refine zQ.s (fun h => zs_goto (tgt := 443) o dX3_plainDoes_416 (by decide)) ?_
    refine zQ.fg (zl_n (zl_n (zl_n (zl_n (zl_n (zl_n (zl_n zl_0))))))) ?_
    exact hj443 _ _ _ (by omega) (by omega) hm
  have hm := if_e2 hm c17
  by_cases c18 : v2 = (18 : Int32)
  · have hm := if_e1 hm c18
    refine zQ.s (fun h => zs_table (off := 363) (tgt := 419) o dX3_plainDoes_56 rfl (by decide) (ts_at c18 (by decide)) (by decide)) ?_
    refine zQ.s (fun h => zs_aload_n (i := 0) o dX3_plainDoes_419 rfl rfl) ?_
    refine zQ.s (fun h => zs_iconst (v := 1) o dX3_plainDoes_420 (by decide)) ?_
    obtain ⟨S43, e_S43, hm⟩ := lt_e hm
    refine zm_putI o fl_X3_340_3 rfl rfl ⟨rfl, rfl⟩ dX3_plainDoes_421 e_S43 ?_
    refine zQ.s (fun h => zs_goto (tgt := 443) o dX3_plainDoes_424 (by decide)) ?_
    refine zQ.fg (zl_n (zl_n (zl_n (zl_n (zl_n (zl_n (zl_n zl_0))))))) ?_
    exact hj443 _ _ _ (by omega) (by omega) hm
  have hm := if_e2 hm c18
  by_cases c21 : v2 = (21 : Int32)
  · have hm := if_e1 hm c21
    refine zQ.s (fun h => zs_table (off := 371) (tgt := 427) o dX3_plainDoes_56 rfl (by decide) (ts_at c21 (by decide)) (by decide)) ?_
    refine zQ.s (fun h => zs_aload_n (i := 0) o dX3_plainDoes_427 rfl rfl) ?_
    refine zQ.s (fun h => zs_iconst (v := 0) o dX3_plainDoes_428 (by decide)) ?_
    obtain ⟨S44, e_S44, hm⟩ := lt_e hm
    refine zm_putI o fl_X3_334_3 rfl rfl ⟨rfl, rfl⟩ dX3_plainDoes_429 e_S44 ?_
    refine zQ.s (fun h => zs_aload_n (i := 0) o dX3_plainDoes_432 rfl rfl) ?_
    refine zQ.s (fun h => zs_aload_n (i := 0) o dX3_plainDoes_433 rfl rfl) ?_
    refine zm_getI o fl_X3_343_3 rfl dX3_plainDoes_434 ?_
    obtain ⟨S45, e_S45, hm⟩ := lt_e hm
    refine zm_putI o fl_X3_337_3 rfl rfl ⟨rfl, rfl⟩ dX3_plainDoes_437 e_S45 ?_
    refine zQ.s (fun h => zs_goto (tgt := 443) o dX3_plainDoes_440 (by decide)) ?_
    refine zQ.fg (zl_n (zl_n (zl_n (zl_n (zl_n (zl_n (zl_n zl_0))))))) ?_
    exact hj443 _ _ _ (by omega) (by omega) hm
  have hm := if_e2 hm c21
  refine zQ.s (fun h => zs_table (off := 387) (tgt := 443) o dX3_plainDoes_56 rfl (by decide) (tsw_c (ts_ne (v := 1) (by decide) c1) (tsw_c (ts_ne (v := 2) (by decide) c2) (tsw_c (ts_ne (v := 3) (by decide) c3) (tsw_c (ts_ne (v := 4) (by decide) c4) (tsw_c (ts_ne (v := 5) (by decide) c5) (tsw_c (ts_ne (v := 6) (by decide) c6) (tsw_c (ts_ne (v := 7) (by decide) c7) (tsw_c (ts_ne (v := 8) (by decide) c8) (tsw_c (ts_ne (v := 9) (by decide) c9) (tsw_c (ts_ne (v := 10) (by decide) c10) (tsw_c (ts_ne (v := 11) (by decide) c11) (tsw_c (ts_ne (v := 12) (by decide) c12) (tsw_c (ts_ne (v := 13) (by decide) c13) (tsw_c (ts_ne (v := 14) (by decide) c14) (tsw_c (ts_ne (v := 15) (by decide) c15) (tsw_c (ts_ne (v := 16) (by decide) c16) (tsw_c (ts_ne (v := 17) (by decide) c17) (tsw_c (ts_ne (v := 18) (by decide) c18) (tsw_s (tsw_s (tsw_c (ts_ne (v := 21) (by decide) c21) (tsw_z)))))))))))))))))))))) (by decide)) ?_
  refine zQ.fg (zl_n (zl_n (zl_n (zl_n (zl_n (zl_n (zl_n zl_0))))))) ?_
  exact hj443 _ _ _ (by omega) (by omega) hm

def m_plain_j218 (k73 : MS → Int32 → Int32 → Option MS) (S : MS) (x1 : Int32) (x3 : Int32) : Option MS :=
  k73 S x1 (x3 + (1 : Int32))
def m_plain_j143 (k73 : MS → Int32 → Int32 → Option MS) (S : MS) (x1 : Int32) (x3 : Int32) : Option MS :=
  gd (inb (0 : Int32) 2) <|
  lt (tT S (pu (mT S) (ix (0 : Int32)) (-1 : Int32))) fun S2 =>
  m_plain_j218 k73 S2 x1 x3
def m_plain_j189 (k73 : MS → Int32 → Int32 → Option MS) (S : MS) (x1 : Int32) (x3 : Int32) : Option MS :=
  lt (tS S 60 (1 : Int32)) fun S1 =>
  m_plain_j218 k73 S1 x1 x3
def m_plain_b73 (k73 : MS → Int32 → Int32 → Option MS) (S : MS) (x1 : Int32) (x3 : Int32) : Option MS :=
  if x1 ≤ x3 then
    some S
  else
    lt (mS S 57) fun v1 =>
    gd (inb (1 : Int32) 2) <|
    lt (tT S (pu (mT S) (ix (1 : Int32)) v1)) fun S3 =>
    gd (inb x3 2004) <|
    if (mA S3 43 (ix x3)) = (9 : Int32) then
      gd (inb (0 : Int32) 2) <|
      lt (tT S3 (pu (mT S3) (ix (0 : Int32)) (9 : Int32))) fun S14 =>
      lt (tS S14 58 v1) fun S15 =>
      lt (tS S15 59 (1 : Int32)) fun S16 =>
      lt (tS S16 57 (mS S16 11)) fun S17 =>
      m_plain_j218 k73 S17 x1 x3
    else
      if (mS S3 5) ≤ v1 then
        m_plain_j143 k73 S3 x1 x3
      else
        if (mS S3 60) = (0 : Int32) then
          bd (m_plainTrap S3 v1) fun y5 =>
          gd (inb (0 : Int32) 2) <|
          lt (tT y5.1 (pu (mT y5.1) (ix (0 : Int32)) y5.2)) fun S7 =>
          gd (inb (0 : Int32) 2) <|
          if (mT S7 (ix (0 : Int32))) = (0 : Int32) then
            bd (m_plainDoes S7 v1) fun y12 =>
            m_plain_j218 k73 y12 x1 x3
          else
            if (mS S7 59) = (0 : Int32) then
              if (mS S7 10) = (-1 : Int32) then
                m_plain_j189 k73 S7 x1 x3
              else
                lt (tS S7 58 (v1 + (1 : Int32))) fun S9 =>
                lt (tS S9 59 (1 : Int32)) fun S10 =>
                lt (tS S10 57 (mS S10 10)) fun S11 =>
                m_plain_j218 k73 S11 x1 x3
            else
              m_plain_j189 k73 S7 x1 x3
        else
          m_plain_j143 k73 S3 x1 x3
def m_plain_l73 : Nat → MS → Int32 → Int32 → Option MS
  | 0 => fun _ _ _ => none
  | n + 1 => m_plain_b73 (m_plain_l73 n)
def m_plain_b28 (k28 : MS → Int32 → Int32 → Option MS) (S : MS) (x1 : Int32) (x2 : Int32) : Option MS :=
  if (64 : Int32) ≤ x2 then
    lt (tS S 57 (0 : Int32)) fun S1 =>
    lt (tS S1 59 (0 : Int32)) fun S2 =>
    lt (tS S2 60 (0 : Int32)) fun S3 =>
    lt (tT S3 (fun _ => 0)) fun S4 =>
    m_plain_l73 2100 S4 x1 (0 : Int32)
  else
    gd (inb x2 64) <|
    gd (inb x2 64) <|
    lt (tA S 56 (ix x2) (mA S 13 (ix x2))) fun S8 =>
    k28 S8 x1 (x2 + (1 : Int32))
def m_plain_l28 : Nat → MS → Int32 → Int32 → Option MS
  | 0 => fun _ _ _ => none
  | n + 1 => m_plain_b28 (m_plain_l28 n)
def m_plain_b2 (k2 : MS → Int32 → Int32 → Option MS) (S : MS) (x1 : Int32) (x2 : Int32) : Option MS :=
  if (8 : Int32) ≤ x2 then
    m_plain_l28 2100 S x1 (0 : Int32)
  else
    gd (inb x2 8) <|
    gd (inb x2 8) <|
    lt (tA S 55 (ix x2) (mA S 12 (ix x2))) fun S3 =>
    k2 S3 x1 (x2 + (1 : Int32))
def m_plain_l2 : Nat → MS → Int32 → Int32 → Option MS
  | 0 => fun _ _ _ => none
  | n + 1 => m_plain_b2 (m_plain_l2 n)
def m_plain (S : MS) (a1 : Int32) : Option MS :=
  m_plain_l2 2100 S a1 (0 : Int32)

set_option maxHeartbeats 40000000 in
theorem M_plain (G : zG) (p : Nat) (g : MG) (S : MS) (a1 : Int32) (S9 : MS) (hm : m_plain S a1 = some S9) : zMq G yX3_plain cX3_plain 5 (some (.array .int)) 3 1 2 p g 2 [.int a1] S S9 := by
  intro h0 h hI0
  refine zCo.st [some (zrf p), some (.int a1), none, none, none] rfl rfl (by simp only [zarg_r, zarg_i, zarg_l, zarg_0]; rfl) (fun X o f0 hin hw0 => ?_)
  have f := f0.e
  refine (?_ : zQ (IM h0 p g 0 0 S) G X 0 0 0 [some (zrf p), some (.int a1), none, none, none] []) h hI0 hw0
  clear hI0 hw0
  generalize hR9 : (S9 : MS) = R at hm
  have hl73 : ∀ (n73 : Nat), n73 ≤ 2100 → ∀ (qq : Nat) (hqq : qq ≠ 0) (S : MS) (x1 : Int32) (x3 : Int32) (cl sl : Nat), cl + (0) ≤ 1 → sl + (0) ≤ 2 → m_plain_l73 n73 S x1 x3 = some R → zQ (IM h0 p g qq 2 S) G X cl sl 73 [some (zrf p), some (.int x1), some (zrf qq), some (.int x3), none] [] := by
    intro n73
    induction n73 with
    | zero => intro _ qq hqq S x1 x3 cl sl _ _ hm; exact no_e hm
    | succ n73 ih =>
      intro hf73
      have ih73 := ih (by omega)
      have hj218 : ∀ (qq : Nat) (hqq : qq ≠ 0) (S : MS) (x1 : Int32) (x3 : Int32) (cl sl : Nat), cl + (0) ≤ 1 → sl + (0) ≤ 2 → m_plain_j218 (m_plain_l73 n73) S x1 x3 = some R → zQ (IM h0 p g qq 2 S) G X cl sl 218 [some (zrf p), some (.int x1), some (zrf qq), some (.int x3), none] [] := by
        intro qq hqq S x1 x3 cl sl hc hs hm
        unfold m_plain_j218 at hm
        refine zQ.s (fun h => zs_iinc (i := 3) (v := x3 + (1 : Int32)) o dX3_plain_218 rfl rfl (by decide) (Or.inr (zc2_ref rfl)) (by simp only [List.set_cons_succ, List.set_cons_zero]; rfl)) ?_
        refine zQ.s (fun h => zs_goto (tgt := 73) o dX3_plain_221 (by decide)) ?_
        exact ih73 _ hqq _ _ _ _ _ (by omega) (by omega) hm
      have hj143 : ∀ (qq : Nat) (hqq : qq ≠ 0) (S : MS) (x1 : Int32) (x3 : Int32) (cl sl : Nat), cl + (0) ≤ 1 → sl + (0) ≤ 2 → m_plain_j143 (m_plain_l73 n73) S x1 x3 = some R → zQ (IM h0 p g qq 2 S) G X cl sl 143 [some (zrf p), some (.int x1), some (zrf qq), some (.int x3), none] [] := by
        intro qq hqq S x1 x3 cl sl hc hs hm
        unfold m_plain_j143 at hm
        refine zQ.s (fun h => zs_aload_n (i := 2) o dX3_plain_143 rfl rfl) ?_
        refine zQ.s (fun h => zs_iconst (v := 0) o dX3_plain_144 (by decide)) ?_
        refine zQ.s (fun h => zs_iconst (v := -1) o dX3_plain_145 (by decide)) ?_
        obtain ⟨g1, hm⟩ := gd_e hm
        obtain ⟨S2, e_S2, hm⟩ := lt_e hm
        refine zm_qst o hqq dX3_plain_146 g1 e_S2 ?_
        refine zQ.s (fun h => zs_goto (tgt := 218) o dX3_plain_147 (by decide)) ?_
        exact hj218 _ hqq _ _ _ _ _ (by omega) (by omega) hm
      have hj189 : ∀ (qq : Nat) (hqq : qq ≠ 0) (S : MS) (x1 : Int32) (x3 : Int32) (cl sl : Nat), cl + (0) ≤ 1 → sl + (0) ≤ 2 → m_plain_j189 (m_plain_l73 n73) S x1 x3 = some R → zQ (IM h0 p g qq 2 S) G X cl sl 189 [some (zrf p), some (.int x1), some (zrf qq), some (.int x3), none] [] := by
        intro qq hqq S x1 x3 cl sl hc hs hm
        unfold m_plain_j189 at hm
        refine zQ.s (fun h => zs_aload_n (i := 0) o dX3_plain_189 rfl rfl) ?_
        refine zQ.s (fun h => zs_iconst (v := 1) o dX3_plain_190 (by decide)) ?_
        obtain ⟨S1, e_S1, hm⟩ := lt_e hm
        refine zm_putI o fl_X3_340_3 rfl rfl ⟨rfl, rfl⟩ dX3_plain_191 e_S1 ?_
        refine zQ.s (fun h => zs_goto (tgt := 218) o dX3_plain_194 (by decide)) ?_
        exact hj218 _ hqq _ _ _ _ _ (by omega) (by omega) hm
      intro qq hqq S x1 x3 cl sl hc hs hm
      have hm : m_plain_b73 (m_plain_l73 n73) S x1 x3 = some R := hm
      unfold m_plain_b73 at hm
      refine zQ.s (fun h => zs_iload_n (i := 3) o dX3_plain_73 rfl rfl) ?_
      refine zQ.s (fun h => zs_iload_n (i := 1) o dX3_plain_74 rfl rfl) ?_
      refine zQ.b (fun h => zs_icmp_ge (tgt := 224) o dX3_plain_75 (by decide)) (fun c => ?_) (fun c => ?_)
      · have hm := if_e1 hm c
        refine zQ.s (fun h => zs_aload_n (i := 2) o dX3_plain_224 rfl rfl) ?_
        refine zm_retq o f dX3_plain_225 rfl hqq (by omega) (by omega) ((so_e hm).trans hR9.symm)
      · have hm := if_e2 hm c
        refine zQ.s (fun h => zs_aload_n (i := 0) o dX3_plain_78 rfl rfl) ?_
        refine zm_getI o fl_X3_337_3 rfl dX3_plain_79 ?_
        obtain ⟨v1, e_v1, hm⟩ := lt_e hm
        refine zQ.nmi e_v1 ?_
        refine zQ.s (fun h => zs_istore (i := 4) o dX3_plain_82 (by decide) (Or.inr rfl) (by simp only [List.set_cons_succ, List.set_cons_zero]; rfl)) ?_
        refine zQ.s (fun h => zs_aload_n (i := 2) o dX3_plain_84 rfl rfl) ?_
        refine zQ.s (fun h => zs_iconst (v := 1) o dX3_plain_85 (by decide)) ?_
        refine zQ.s (fun h => zs_iload (i := 4) o dX3_plain_86 rfl) ?_
        obtain ⟨g2, hm⟩ := gd_e hm
        obtain ⟨S3, e_S3, hm⟩ := lt_e hm
        refine zm_qst o hqq dX3_plain_88 g2 e_S3 ?_
        refine zQ.s (fun h => zs_aload_n (i := 0) o dX3_plain_89 rfl rfl) ?_
        refine zm_getR o fl_X3_101_3 rfl dX3_plain_90 ?_
        refine zQ.s (fun h => zs_iload_n (i := 3) o dX3_plain_93 rfl rfl) ?_
        obtain ⟨g4, hm⟩ := gd_e hm
        refine zm_iald o rfl dX3_plain_94 g4 ?_
        refine zQ.s (fun h => zs_bipush (v := 9) o dX3_plain_95 (by decide)) ?_
        refine zQ.b (fun h => zs_icmp_ne (tgt := 127) o dX3_plain_97 (by decide)) (fun c => ?_) (fun c => ?_)
        · have hm := if_e2 hm c
          refine zQ.s (fun h => zs_iload (i := 4) o dX3_plain_127 rfl) ?_
          refine zQ.s (fun h => zs_aload_n (i := 0) o dX3_plain_129 rfl rfl) ?_
          refine zm_getI o fl_X3_136_3 rfl dX3_plain_130 ?_
          refine zQ.b (fun h => zs_icmp_ge (tgt := 143) o dX3_plain_133 (by decide)) (fun c => ?_) (fun c => ?_)
          · have hm := if_e1 hm c
            refine zQ.fg (zl_s (zl_s (zl_s (zl_s (zl_n zl_0))))) ?_
            exact hj143 _ hqq _ _ _ _ _ (by omega) (by omega) hm
          · have hm := if_e2 hm c
            refine zQ.s (fun h => zs_aload_n (i := 0) o dX3_plain_136 rfl rfl) ?_
            refine zm_getI o fl_X3_340_3 rfl dX3_plain_137 ?_
            refine zQ.b (fun h => zs_if_eq (tgt := 150) o dX3_plain_140 (by decide)) (fun c => ?_) (fun c => ?_)
            · have hm := if_e1 hm c
              refine zQ.s (fun h => zs_aload_n (i := 2) o dX3_plain_150 rfl rfl) ?_
              refine zQ.s (fun h => zs_iconst (v := 0) o dX3_plain_151 (by decide)) ?_
              refine zQ.s (fun h => zs_aload_n (i := 0) o dX3_plain_152 rfl rfl) ?_
              refine zQ.s (fun h => zs_iload (i := 4) o dX3_plain_153 rfl) ?_
              obtain ⟨y5, c_y5, hm⟩ := bd_e hm
              refine zm_Vi o ml_X3_346 (M_plainTrap G p g _ _ _ _ _ _ c_y5) dX3_plain_155 rfl rfl rfl rfl (by omega) (by omega) ?_
              obtain ⟨g6, hm⟩ := gd_e hm
              obtain ⟨S7, e_S7, hm⟩ := lt_e hm
              refine zm_qst o hqq dX3_plain_158 g6 e_S7 ?_
              refine zQ.s (fun h => zs_aload_n (i := 2) o dX3_plain_159 rfl rfl) ?_
              refine zQ.s (fun h => zs_iconst (v := 0) o dX3_plain_160 (by decide)) ?_
              obtain ⟨g8, hm⟩ := gd_e hm
              refine zm_qld o hqq dX3_plain_161 g8 ?_
              refine zQ.b (fun h => zs_if_ne (tgt := 174) o dX3_plain_162 (by decide)) (fun c => ?_) (fun c => ?_)
              · have hm := if_e2 hm c
                refine zQ.s (fun h => zs_aload_n (i := 0) o dX3_plain_174 rfl rfl) ?_
                refine zm_getI o fl_X3_334_3 rfl dX3_plain_175 ?_
                refine zQ.b (fun h => zs_if_ne (tgt := 189) o dX3_plain_178 (by decide)) (fun c => ?_) (fun c => ?_)
                · have hm := if_e2 hm c
                  refine zQ.fg (zl_s (zl_s (zl_s (zl_s (zl_n zl_0))))) ?_
                  exact hj189 _ hqq _ _ _ _ _ (by omega) (by omega) hm
                · have hm := if_e1 hm c
                  refine zQ.s (fun h => zs_aload_n (i := 0) o dX3_plain_181 rfl rfl) ?_
                  refine zm_getI o fl_X3_38_3 rfl dX3_plain_182 ?_
                  refine zQ.s (fun h => zs_iconst (v := -1) o dX3_plain_185 (by decide)) ?_
                  refine zQ.b (fun h => zs_icmp_ne (tgt := 197) o dX3_plain_186 (by decide)) (fun c => ?_) (fun c => ?_)
                  · have hm := if_e2 hm c
                    refine zQ.s (fun h => zs_aload_n (i := 0) o dX3_plain_197 rfl rfl) ?_
                    refine zQ.s (fun h => zs_iload (i := 4) o dX3_plain_198 rfl) ?_
                    refine zQ.s (fun h => zs_iconst (v := 1) o dX3_plain_200 (by decide)) ?_
                    refine zQ.s (fun h => zs_iadd o dX3_plain_201) ?_
                    obtain ⟨S9, e_S9, hm⟩ := lt_e hm
                    refine zm_putI o fl_X3_343_3 rfl rfl ⟨rfl, rfl⟩ dX3_plain_202 e_S9 ?_
                    refine zQ.s (fun h => zs_aload_n (i := 0) o dX3_plain_205 rfl rfl) ?_
                    refine zQ.s (fun h => zs_iconst (v := 1) o dX3_plain_206 (by decide)) ?_
                    obtain ⟨S10, e_S10, hm⟩ := lt_e hm
                    refine zm_putI o fl_X3_334_3 rfl rfl ⟨rfl, rfl⟩ dX3_plain_207 e_S10 ?_
                    refine zQ.s (fun h => zs_aload_n (i := 0) o dX3_plain_210 rfl rfl) ?_
                    refine zQ.s (fun h => zs_aload_n (i := 0) o dX3_plain_211 rfl rfl) ?_
                    refine zm_getI o fl_X3_38_3 rfl dX3_plain_212 ?_
                    obtain ⟨S11, e_S11, hm⟩ := lt_e hm
                    refine zm_putI o fl_X3_337_3 rfl rfl ⟨rfl, rfl⟩ dX3_plain_215 e_S11 ?_
                    refine zQ.fg (zl_s (zl_s (zl_s (zl_s (zl_n zl_0))))) ?_
                    exact hj218 _ hqq _ _ _ _ _ (by omega) (by omega) hm
                  · have hm := if_e1 hm c
                    refine zQ.fg (zl_s (zl_s (zl_s (zl_s (zl_n zl_0))))) ?_
                    exact hj189 _ hqq _ _ _ _ _ (by omega) (by omega) hm
              · have hm := if_e1 hm c
                refine zQ.s (fun h => zs_aload_n (i := 0) o dX3_plain_165 rfl rfl) ?_
                refine zQ.s (fun h => zs_iload (i := 4) o dX3_plain_166 rfl) ?_
                obtain ⟨y12, c_y12, hm⟩ := bd_e hm
                refine zm_Vv o ml_X3_349 (M_plainDoes G p g _ _ _ _ _ c_y12) dX3_plain_168 rfl rfl rfl rfl (by omega) (by omega) ?_
                refine zQ.s (fun h => zs_goto (tgt := 218) o dX3_plain_171 (by decide)) ?_
                refine zQ.fg (zl_s (zl_s (zl_s (zl_s (zl_n zl_0))))) ?_
                exact hj218 _ hqq _ _ _ _ _ (by omega) (by omega) hm
            · have hm := if_e2 hm c
              refine zQ.fg (zl_s (zl_s (zl_s (zl_s (zl_n zl_0))))) ?_
              exact hj143 _ hqq _ _ _ _ _ (by omega) (by omega) hm
        · have hm := if_e1 hm c
          refine zQ.s (fun h => zs_aload_n (i := 2) o dX3_plain_100 rfl rfl) ?_
          refine zQ.s (fun h => zs_iconst (v := 0) o dX3_plain_101 (by decide)) ?_
          refine zQ.s (fun h => zs_bipush (v := 9) o dX3_plain_102 (by decide)) ?_
          obtain ⟨g13, hm⟩ := gd_e hm
          obtain ⟨S14, e_S14, hm⟩ := lt_e hm
          refine zm_qst o hqq dX3_plain_104 g13 e_S14 ?_
          refine zQ.s (fun h => zs_aload_n (i := 0) o dX3_plain_105 rfl rfl) ?_
          refine zQ.s (fun h => zs_iload (i := 4) o dX3_plain_106 rfl) ?_
          obtain ⟨S15, e_S15, hm⟩ := lt_e hm
          refine zm_putI o fl_X3_343_3 rfl rfl ⟨rfl, rfl⟩ dX3_plain_108 e_S15 ?_
          refine zQ.s (fun h => zs_aload_n (i := 0) o dX3_plain_111 rfl rfl) ?_
          refine zQ.s (fun h => zs_iconst (v := 1) o dX3_plain_112 (by decide)) ?_
          obtain ⟨S16, e_S16, hm⟩ := lt_e hm
          refine zm_putI o fl_X3_334_3 rfl rfl ⟨rfl, rfl⟩ dX3_plain_113 e_S16 ?_
          refine zQ.s (fun h => zs_aload_n (i := 0) o dX3_plain_116 rfl rfl) ?_
          refine zQ.s (fun h => zs_aload_n (i := 0) o dX3_plain_117 rfl rfl) ?_
          refine zm_getI o fl_X3_41_3 rfl dX3_plain_118 ?_
          obtain ⟨S17, e_S17, hm⟩ := lt_e hm
          refine zm_putI o fl_X3_337_3 rfl rfl ⟨rfl, rfl⟩ dX3_plain_121 e_S17 ?_
          refine zQ.s (fun h => zs_goto (tgt := 218) o dX3_plain_124 (by decide)) ?_
          refine zQ.fg (zl_s (zl_s (zl_s (zl_s (zl_n zl_0))))) ?_
          exact hj218 _ hqq _ _ _ _ _ (by omega) (by omega) hm
  have hl28 : ∀ (n28 : Nat), n28 ≤ 2100 → ∀ (S : MS) (x1 : Int32) (x2 : Int32) (cl sl : Nat), cl + (1) ≤ 1 → sl + (2) ≤ 2 → m_plain_l28 n28 S x1 x2 = some R → zQ (IM h0 p g 0 0 S) G X cl sl 28 [some (zrf p), some (.int x1), some (.int x2), none, none] [] := by
    intro n28
    induction n28 with
    | zero => intro _ S x1 x2 cl sl _ _ hm; exact no_e hm
    | succ n28 ih =>
      intro hf28
      have ih28 := ih (by omega)
      intro S x1 x2 cl sl hc hs hm
      have hm : m_plain_b28 (m_plain_l28 n28) S x1 x2 = some R := hm
      unfold m_plain_b28 at hm
      refine zQ.s (fun h => zs_iload_n (i := 2) o dX3_plain_28 rfl rfl) ?_
      refine zQ.s (fun h => zs_bipush (v := 64) o dX3_plain_29 (by decide)) ?_
      refine zQ.b (fun h => zs_icmp_ge (tgt := 52) o dX3_plain_31 (by decide)) (fun c => ?_) (fun c => ?_)
      · have hm := if_e1 hm c
        refine zQ.s (fun h => zs_aload_n (i := 0) o dX3_plain_52 rfl rfl) ?_
        refine zQ.s (fun h => zs_iconst (v := 0) o dX3_plain_53 (by decide)) ?_
        obtain ⟨S1, e_S1, hm⟩ := lt_e hm
        refine zm_putI o fl_X3_337_3 rfl rfl ⟨rfl, rfl⟩ dX3_plain_54 e_S1 ?_
        refine zQ.s (fun h => zs_aload_n (i := 0) o dX3_plain_57 rfl rfl) ?_
        refine zQ.s (fun h => zs_iconst (v := 0) o dX3_plain_58 (by decide)) ?_
        obtain ⟨S2, e_S2, hm⟩ := lt_e hm
        refine zm_putI o fl_X3_334_3 rfl rfl ⟨rfl, rfl⟩ dX3_plain_59 e_S2 ?_
        refine zQ.s (fun h => zs_aload_n (i := 0) o dX3_plain_62 rfl rfl) ?_
        refine zQ.s (fun h => zs_iconst (v := 0) o dX3_plain_63 (by decide)) ?_
        obtain ⟨S3, e_S3, hm⟩ := lt_e hm
        refine zm_putI o fl_X3_340_3 rfl rfl ⟨rfl, rfl⟩ dX3_plain_64 e_S3 ?_
        refine zQ.s (fun h => zs_iconst (v := 2) o dX3_plain_67 (by decide)) ?_
        obtain ⟨S4, e_S4, hm⟩ := lt_e hm
        refine zm_newq (N := 2) o (by decide) rfl (by decide) dX3_plain_68 (by omega) (by omega) e_S4 (fun qv5 h_qv5 => ?_)
        refine zQ.s (fun h => zs_astore_n (i := 2) o dX3_plain_70 rfl (by decide) (Or.inr rfl) (by simp only [List.set_cons_succ, List.set_cons_zero]; rfl)) ?_
        refine zQ.s (fun h => zs_iconst (v := 0) o dX3_plain_71 (by decide)) ?_
        refine zQ.s (fun h => zs_istore_n (i := 3) o dX3_plain_72 rfl (by decide) (Or.inr (zc2_ref rfl)) (by simp only [List.set_cons_succ, List.set_cons_zero]; rfl)) ?_
        exact hl73 2100 (Nat.le_refl _) _ h_qv5 _ _ _ _ _ (by omega) (by omega) hm
      · have hm := if_e2 hm c
        refine zQ.s (fun h => zs_aload_n (i := 0) o dX3_plain_34 rfl rfl) ?_
        refine zm_getR o fl_X3_117_3 rfl dX3_plain_35 ?_
        refine zQ.s (fun h => zs_iload_n (i := 2) o dX3_plain_38 rfl rfl) ?_
        refine zQ.s (fun h => zs_aload_n (i := 0) o dX3_plain_39 rfl rfl) ?_
        refine zm_getR o fl_X3_47_3 rfl dX3_plain_40 ?_
        refine zQ.s (fun h => zs_iload_n (i := 2) o dX3_plain_43 rfl rfl) ?_
        obtain ⟨g6, hm⟩ := gd_e hm
        refine zm_iald o rfl dX3_plain_44 g6 ?_
        obtain ⟨g7, hm⟩ := gd_e hm
        obtain ⟨S8, e_S8, hm⟩ := lt_e hm
        refine zm_iast o rfl dX3_plain_45 g7 e_S8 ?_
        refine zQ.s (fun h => zs_iinc (i := 2) (v := x2 + (1 : Int32)) o dX3_plain_46 rfl rfl (by decide) (Or.inr rfl) (by simp only [List.set_cons_succ, List.set_cons_zero]; rfl)) ?_
        refine zQ.s (fun h => zs_goto (tgt := 28) o dX3_plain_49 (by decide)) ?_
        exact ih28 _ _ _ _ _ (by omega) (by omega) hm
  have hl2 : ∀ (n2 : Nat), n2 ≤ 2100 → ∀ (S : MS) (x1 : Int32) (x2 : Int32) (cl sl : Nat), cl + (1) ≤ 1 → sl + (2) ≤ 2 → m_plain_l2 n2 S x1 x2 = some R → zQ (IM h0 p g 0 0 S) G X cl sl 2 [some (zrf p), some (.int x1), some (.int x2), none, none] [] := by
    intro n2
    induction n2 with
    | zero => intro _ S x1 x2 cl sl _ _ hm; exact no_e hm
    | succ n2 ih =>
      intro hf2
      have ih2 := ih (by omega)
      intro S x1 x2 cl sl hc hs hm
      have hm : m_plain_b2 (m_plain_l2 n2) S x1 x2 = some R := hm
      unfold m_plain_b2 at hm
      refine zQ.s (fun h => zs_iload_n (i := 2) o dX3_plain_2 rfl rfl) ?_
      refine zQ.s (fun h => zs_bipush (v := 8) o dX3_plain_3 (by decide)) ?_
      refine zQ.b (fun h => zs_icmp_ge (tgt := 26) o dX3_plain_5 (by decide)) (fun c => ?_) (fun c => ?_)
      · have hm := if_e1 hm c
        refine zQ.s (fun h => zs_iconst (v := 0) o dX3_plain_26 (by decide)) ?_
        refine zQ.s (fun h => zs_istore_n (i := 2) o dX3_plain_27 rfl (by decide) (Or.inr rfl) (by simp only [List.set_cons_succ, List.set_cons_zero]; rfl)) ?_
        exact hl28 2100 (Nat.le_refl _) _ _ _ _ _ (by omega) (by omega) hm
      · have hm := if_e2 hm c
        refine zQ.s (fun h => zs_aload_n (i := 0) o dX3_plain_8 rfl rfl) ?_
        refine zm_getR o fl_X3_114_3 rfl dX3_plain_9 ?_
        refine zQ.s (fun h => zs_iload_n (i := 2) o dX3_plain_12 rfl rfl) ?_
        refine zQ.s (fun h => zs_aload_n (i := 0) o dX3_plain_13 rfl rfl) ?_
        refine zm_getR o fl_X3_44_3 rfl dX3_plain_14 ?_
        refine zQ.s (fun h => zs_iload_n (i := 2) o dX3_plain_17 rfl rfl) ?_
        obtain ⟨g1, hm⟩ := gd_e hm
        refine zm_iald o rfl dX3_plain_18 g1 ?_
        obtain ⟨g2, hm⟩ := gd_e hm
        obtain ⟨S3, e_S3, hm⟩ := lt_e hm
        refine zm_iast o rfl dX3_plain_19 g2 e_S3 ?_
        refine zQ.s (fun h => zs_iinc (i := 2) (v := x2 + (1 : Int32)) o dX3_plain_20 rfl rfl (by decide) (Or.inr rfl) (by simp only [List.set_cons_succ, List.set_cons_zero]; rfl)) ?_
        refine zQ.s (fun h => zs_goto (tgt := 2) o dX3_plain_23 (by decide)) ?_
        exact ih2 _ _ _ _ _ (by omega) (by omega) hm
  unfold m_plain at hm
  refine zQ.s (fun h => zs_iconst (v := 0) o dX3_plain_0 (by decide)) ?_
  refine zQ.s (fun h => zs_istore_n (i := 2) o dX3_plain_1 rfl (by decide) (Or.inr rfl) (by simp only [List.set_cons_succ, List.set_cons_zero]; rfl)) ?_
  exact hl2 2100 (Nat.le_refl _) _ _ _ _ _ (by omega) (by omega) hm

def m_kindByPlain_j21 (S : MS) (s0 : Int32) : Option (MS × Int32) :=
  some (S, s0)
def m_kindByPlain (S : MS) (a1 : Int32) : Option (MS × Int32) :=
  bd (m_noEnd S a1) fun y1 =>
  if y1.2 = (0 : Int32) then
    bd (m_plain y1.1 (a1 + (1 : Int32))) fun y2 =>
    gd (inb (0 : Int32) 2) <|
    m_kindByPlain_j21 y2 (mT y2 (ix (0 : Int32)))
  else
    m_kindByPlain_j21 y1.1 (0 : Int32)

set_option maxHeartbeats 40000000 in
theorem M_kindByPlain (G : zG) (p : Nat) (g : MG) (S : MS) (a1 : Int32) (V : Int32) (S9 : MS) (hm : m_kindByPlain S a1 = some (S9, V)) : zMi G yX3_kindByPlain cX3_kindByPlain 2 (some .int) 4 1 2 p g 0 0 [.int a1] S V S9 := by
  intro h0 h hI0
  refine zCo.st [some (zrf p), some (.int a1)] rfl rfl (by simp only [zarg_r, zarg_i, zarg_l, zarg_0]; rfl) (fun X o f0 hin hw0 => ?_)
  have f := f0.e
  refine (?_ : zQ (IM h0 p g 0 0 S) G X 0 0 0 [some (zrf p), some (.int a1)] []) h hI0 hw0
  clear hI0 hw0
  generalize hR9 : ((S9, V) : (MS × Int32)) = R at hm
  have hj21 : ∀ (S : MS) (s0 : Int32) (cl sl : Nat), cl + (0) ≤ 1 → sl + (0) ≤ 2 → m_kindByPlain_j21 S s0 = some R → zQ (IM h0 p g 0 0 S) G X cl sl 21 [none, none] [.int s0] := by
    intro S s0 cl sl hc hs hm
    unfold m_kindByPlain_j21 at hm
    refine zm_reti o f dX3_kindByPlain_21 rfl (by omega) (by omega) ((so_e hm).trans hR9.symm)
  unfold m_kindByPlain at hm
  refine zQ.s (fun h => zs_aload_n (i := 0) o dX3_kindByPlain_0 rfl rfl) ?_
  refine zQ.s (fun h => zs_iload_n (i := 1) o dX3_kindByPlain_1 rfl rfl) ?_
  obtain ⟨y1, c_y1, hm⟩ := bd_e hm
  refine zm_Vi o ml_X3_328 (M_noEnd G p g _ _ _ _ _ _ c_y1) dX3_kindByPlain_2 rfl rfl rfl rfl (by omega) (by omega) ?_
  refine zQ.b (fun h => zs_if_eq (tgt := 12) o dX3_kindByPlain_5 (by decide)) (fun c => ?_) (fun c => ?_)
  · have hm := if_e1 hm c
    refine zQ.s (fun h => zs_aload_n (i := 0) o dX3_kindByPlain_12 rfl rfl) ?_
    refine zQ.s (fun h => zs_iload_n (i := 1) o dX3_kindByPlain_13 rfl rfl) ?_
    refine zQ.s (fun h => zs_iconst (v := 1) o dX3_kindByPlain_14 (by decide)) ?_
    refine zQ.s (fun h => zs_iadd o dX3_kindByPlain_15) ?_
    obtain ⟨y2, c_y2, hm⟩ := bd_e hm
    refine zm_Vq o ml_X3_352 (M_plain G p g _ _ _ c_y2) dX3_kindByPlain_16 rfl rfl rfl rfl (by omega) (by omega) (fun qv3 h_qv3 => ?_)
    refine zQ.s (fun h => zs_iconst (v := 0) o dX3_kindByPlain_19 (by decide)) ?_
    obtain ⟨g4, hm⟩ := gd_e hm
    refine zm_qld o h_qv3 dX3_kindByPlain_20 g4 ?_
    refine zQ.fg (zl_n (zl_n zl_0)) ?_
    refine zQ.i (J := IM h0 p g 0 0 y2) (fun h hI => ⟨hI.1, hI.2.1, fun z => absurd rfl z⟩) ?_
    exact hj21 _ _ _ _ (by omega) (by omega) hm
  · have hm := if_e2 hm c
    refine zQ.s (fun h => zs_iconst (v := 0) o dX3_kindByPlain_8 (by decide)) ?_
    refine zQ.s (fun h => zs_goto (tgt := 21) o dX3_kindByPlain_9 (by decide)) ?_
    refine zQ.fg (zl_n (zl_n zl_0)) ?_
    exact hj21 _ _ _ _ (by omega) (by omega) hm

def m_placeByPlain_j21 (S : MS) (s0 : Int32) : Option (MS × Int32) :=
  some (S, s0)
def m_placeByPlain (S : MS) (a1 : Int32) : Option (MS × Int32) :=
  bd (m_noEnd S a1) fun y1 =>
  if y1.2 = (0 : Int32) then
    bd (m_plain y1.1 (a1 + (1 : Int32))) fun y2 =>
    gd (inb (1 : Int32) 2) <|
    m_placeByPlain_j21 y2 (mT y2 (ix (1 : Int32)))
  else
    m_placeByPlain_j21 y1.1 (0 : Int32)

set_option maxHeartbeats 40000000 in
theorem M_placeByPlain (G : zG) (p : Nat) (g : MG) (S : MS) (a1 : Int32) (V : Int32) (S9 : MS) (hm : m_placeByPlain S a1 = some (S9, V)) : zMi G yX3_placeByPlain cX3_placeByPlain 2 (some .int) 4 1 2 p g 0 0 [.int a1] S V S9 := by
  intro h0 h hI0
  refine zCo.st [some (zrf p), some (.int a1)] rfl rfl (by simp only [zarg_r, zarg_i, zarg_l, zarg_0]; rfl) (fun X o f0 hin hw0 => ?_)
  have f := f0.e
  refine (?_ : zQ (IM h0 p g 0 0 S) G X 0 0 0 [some (zrf p), some (.int a1)] []) h hI0 hw0
  clear hI0 hw0
  generalize hR9 : ((S9, V) : (MS × Int32)) = R at hm
  have hj21 : ∀ (S : MS) (s0 : Int32) (cl sl : Nat), cl + (0) ≤ 1 → sl + (0) ≤ 2 → m_placeByPlain_j21 S s0 = some R → zQ (IM h0 p g 0 0 S) G X cl sl 21 [none, none] [.int s0] := by
    intro S s0 cl sl hc hs hm
    unfold m_placeByPlain_j21 at hm
    refine zm_reti o f dX3_placeByPlain_21 rfl (by omega) (by omega) ((so_e hm).trans hR9.symm)
  unfold m_placeByPlain at hm
  refine zQ.s (fun h => zs_aload_n (i := 0) o dX3_placeByPlain_0 rfl rfl) ?_
  refine zQ.s (fun h => zs_iload_n (i := 1) o dX3_placeByPlain_1 rfl rfl) ?_
  obtain ⟨y1, c_y1, hm⟩ := bd_e hm
  refine zm_Vi o ml_X3_328 (M_noEnd G p g _ _ _ _ _ _ c_y1) dX3_placeByPlain_2 rfl rfl rfl rfl (by omega) (by omega) ?_
  refine zQ.b (fun h => zs_if_eq (tgt := 12) o dX3_placeByPlain_5 (by decide)) (fun c => ?_) (fun c => ?_)
  · have hm := if_e1 hm c
    refine zQ.s (fun h => zs_aload_n (i := 0) o dX3_placeByPlain_12 rfl rfl) ?_
    refine zQ.s (fun h => zs_iload_n (i := 1) o dX3_placeByPlain_13 rfl rfl) ?_
    refine zQ.s (fun h => zs_iconst (v := 1) o dX3_placeByPlain_14 (by decide)) ?_
    refine zQ.s (fun h => zs_iadd o dX3_placeByPlain_15) ?_
    obtain ⟨y2, c_y2, hm⟩ := bd_e hm
    refine zm_Vq o ml_X3_352 (M_plain G p g _ _ _ c_y2) dX3_placeByPlain_16 rfl rfl rfl rfl (by omega) (by omega) (fun qv3 h_qv3 => ?_)
    refine zQ.s (fun h => zs_iconst (v := 1) o dX3_placeByPlain_19 (by decide)) ?_
    obtain ⟨g4, hm⟩ := gd_e hm
    refine zm_qld o h_qv3 dX3_placeByPlain_20 g4 ?_
    refine zQ.fg (zl_n (zl_n zl_0)) ?_
    refine zQ.i (J := IM h0 p g 0 0 y2) (fun h hI => ⟨hI.1, hI.2.1, fun z => absurd rfl z⟩) ?_
    exact hj21 _ _ _ _ (by omega) (by omega) hm
  · have hm := if_e2 hm c
    refine zQ.s (fun h => zs_iconst (v := 0) o dX3_placeByPlain_8 (by decide)) ?_
    refine zQ.s (fun h => zs_goto (tgt := 21) o dX3_placeByPlain_9 (by decide)) ?_
    refine zQ.fg (zl_n (zl_n zl_0)) ?_
    exact hj21 _ _ _ _ (by omega) (by omega) hm

def m_register_j41 (S : MS) (s0 : Int32) : Option (MS × Int32) :=
  some (S, s0)
def m_register_j16 (S : MS) (x1 : Int32) (s1 : Int32) : Option (MS × Int32) :=
  lt (tS S 54 s1) fun S1 =>
  if (mS S1 54) ≤ (0 : Int32) then
    gd (inb x1 8) <|
    gd (inb (mA S1 17 (ix x1)) 24) <|
    m_register_j41 S1 (mA S1 18 (ix (mA S1 17 (ix x1))))
  else
    m_register_j41 S1 (0 : Int32)
def m_register (S : MS) (a1 : Int32) : Option (MS × Int32) :=
  bd (m_in a1 (0 : Int32) (7 : Int32)) fun y1 =>
  if y1 = (0 : Int32) then
    m_register_j16 S a1 (1 : Int32)
  else
    m_register_j16 S a1 (0 : Int32)

set_option maxHeartbeats 40000000 in
theorem M_register (G : zG) (p : Nat) (g : MG) (q n : Nat) (S : MS) (a1 : Int32) (V : Int32) (S9 : MS) (hm : m_register S a1 = some (S9, V)) : zMi G yX3_register cX3_register 2 (some .int) 1 0 0 p g q n [.int a1] S V S9 := by
  intro h0 h hI0
  refine zCo.st [some (zrf p), some (.int a1)] rfl rfl (by simp only [zarg_r, zarg_i, zarg_l, zarg_0]; rfl) (fun X o f0 hin hw0 => ?_)
  have f := f0.e
  refine (?_ : zQ (IM h0 p g q n S) G X 0 0 0 [some (zrf p), some (.int a1)] []) h hI0 hw0
  clear hI0 hw0
  generalize hR9 : ((S9, V) : (MS × Int32)) = R at hm
  have hj41 : ∀ (S : MS) (s0 : Int32) (cl sl : Nat), cl + (0) ≤ 0 → sl + (0) ≤ 0 → m_register_j41 S s0 = some R → zQ (IM h0 p g q n S) G X cl sl 41 [none, none] [.int s0] := by
    intro S s0 cl sl hc hs hm
    unfold m_register_j41 at hm
    refine zm_reti o f dX3_register_41 rfl (by omega) (by omega) ((so_e hm).trans hR9.symm)
  have hj16 : ∀ (S : MS) (x1 : Int32) (s1 : Int32) (cl sl : Nat), cl + (0) ≤ 0 → sl + (0) ≤ 0 → m_register_j16 S x1 s1 = some R → zQ (IM h0 p g q n S) G X cl sl 16 [some (zrf p), some (.int x1)] [.int s1, zrf p] := by
    intro S x1 s1 cl sl hc hs hm
    unfold m_register_j16 at hm
    obtain ⟨S1, e_S1, hm⟩ := lt_e hm
    refine zm_putI o fl_X3_123_3 rfl rfl ⟨rfl, rfl⟩ dX3_register_16 e_S1 ?_
    refine zQ.s (fun h => zs_aload_n (i := 0) o dX3_register_19 rfl rfl) ?_
    refine zm_getI o fl_X3_123_3 rfl dX3_register_20 ?_
    refine zQ.b (fun h => zs_if_le (tgt := 30) o dX3_register_23 (by decide)) (fun c => ?_) (fun c => ?_)
    · have hm := if_e1 hm c
      refine zQ.s (fun h => zs_aload_n (i := 0) o dX3_register_30 rfl rfl) ?_
      refine zm_getR o fl_X3_62_3 rfl dX3_register_31 ?_
      refine zQ.s (fun h => zs_aload_n (i := 0) o dX3_register_34 rfl rfl) ?_
      refine zm_getR o fl_X3_59_3 rfl dX3_register_35 ?_
      refine zQ.s (fun h => zs_iload_n (i := 1) o dX3_register_38 rfl rfl) ?_
      obtain ⟨g2, hm⟩ := gd_e hm
      refine zm_iald o rfl dX3_register_39 g2 ?_
      obtain ⟨g3, hm⟩ := gd_e hm
      refine zm_iald o rfl dX3_register_40 g3 ?_
      refine zQ.fg (zl_n (zl_n zl_0)) ?_
      exact hj41 _ _ _ _ (by omega) (by omega) hm
    · have hm := if_e2 hm c
      refine zQ.s (fun h => zs_iconst (v := 0) o dX3_register_26 (by decide)) ?_
      refine zQ.s (fun h => zs_goto (tgt := 41) o dX3_register_27 (by decide)) ?_
      refine zQ.fg (zl_n (zl_n zl_0)) ?_
      exact hj41 _ _ _ _ (by omega) (by omega) hm
  unfold m_register at hm
  refine zQ.s (fun h => zs_aload_n (i := 0) o dX3_register_0 rfl rfl) ?_
  refine zQ.s (fun h => zs_iload_n (i := 1) o dX3_register_1 rfl rfl) ?_
  refine zQ.s (fun h => zs_iconst (v := 0) o dX3_register_2 (by decide)) ?_
  refine zQ.s (fun h => zs_bipush (v := 7) o dX3_register_3 (by decide)) ?_
  obtain ⟨y1, c_y1, hm⟩ := bd_e hm
  refine zQ_Si o ml_X3_129 (M_in G _ _ _ _ c_y1) dX3_register_5 rfl rfl rfl rfl (by omega) (by omega) ?_
  refine zQ.b (fun h => zs_if_eq (tgt := 15) o dX3_register_8 (by decide)) (fun c => ?_) (fun c => ?_)
  · have hm := if_e1 hm c
    refine zQ.s (fun h => zs_iconst (v := 1) o dX3_register_15 (by decide)) ?_
    exact hj16 _ _ _ _ _ (by omega) (by omega) hm
  · have hm := if_e2 hm c
    refine zQ.s (fun h => zs_iconst (v := 0) o dX3_register_11 (by decide)) ?_
    refine zQ.s (fun h => zs_goto (tgt := 16) o dX3_register_12 (by decide)) ?_
    exact hj16 _ _ _ _ _ (by omega) (by omega) hm

def m_registerByPlain_j50 (S : MS) (s0 : Int32) : Option (MS × Int32) :=
  some (S, s0)
def m_registerByPlain_j40 (S : MS) : Option (MS × Int32) :=
  m_registerByPlain_j50 S (0 : Int32)
def m_registerByPlain_j16 (S : MS) (x1 : Int32) (s1 : Int32) : Option (MS × Int32) :=
  lt (tS S 54 s1) fun S1 =>
  bd (m_plain S1 (mS S1 46)) fun y2 =>
  if (0 : Int32) < (mS y2 54) then
    m_registerByPlain_j40 y2
  else
    if (nI 2) = (0 : Int32) then
      m_registerByPlain_j40 y2
    else
      gd (inb x1 8) <|
      m_registerByPlain_j50 y2 (mA y2 55 (ix x1))
def m_registerByPlain (S : MS) (a1 : Int32) : Option (MS × Int32) :=
  bd (m_in a1 (0 : Int32) (7 : Int32)) fun y1 =>
  if y1 = (0 : Int32) then
    m_registerByPlain_j16 S a1 (1 : Int32)
  else
    m_registerByPlain_j16 S a1 (0 : Int32)

set_option maxHeartbeats 40000000 in
theorem M_registerByPlain (G : zG) (p : Nat) (g : MG) (S : MS) (a1 : Int32) (V : Int32) (S9 : MS) (hm : m_registerByPlain S a1 = some (S9, V)) : zMi G yX3_registerByPlain cX3_registerByPlain 3 (some .int) 4 1 2 p g 0 0 [.int a1] S V S9 := by
  intro h0 h hI0
  refine zCo.st [some (zrf p), some (.int a1), none] rfl rfl (by simp only [zarg_r, zarg_i, zarg_l, zarg_0]; rfl) (fun X o f0 hin hw0 => ?_)
  have f := f0.e
  refine (?_ : zQ (IM h0 p g 0 0 S) G X 0 0 0 [some (zrf p), some (.int a1), none] []) h hI0 hw0
  clear hI0 hw0
  generalize hR9 : ((S9, V) : (MS × Int32)) = R at hm
  have hj50 : ∀ (S : MS) (s0 : Int32) (cl sl : Nat), cl + (0) ≤ 1 → sl + (0) ≤ 2 → m_registerByPlain_j50 S s0 = some R → zQ (IM h0 p g 0 0 S) G X cl sl 50 [none, none, none] [.int s0] := by
    intro S s0 cl sl hc hs hm
    unfold m_registerByPlain_j50 at hm
    refine zm_reti o f dX3_registerByPlain_50 rfl (by omega) (by omega) ((so_e hm).trans hR9.symm)
  have hj40 : ∀ (S : MS) (cl sl : Nat), cl + (0) ≤ 1 → sl + (0) ≤ 2 → m_registerByPlain_j40 S = some R → zQ (IM h0 p g 0 0 S) G X cl sl 40 [none, none, none] [] := by
    intro S cl sl hc hs hm
    unfold m_registerByPlain_j40 at hm
    refine zQ.s (fun h => zs_iconst (v := 0) o dX3_registerByPlain_40 (by decide)) ?_
    refine zQ.s (fun h => zs_goto (tgt := 50) o dX3_registerByPlain_41 (by decide)) ?_
    exact hj50 _ _ _ _ (by omega) (by omega) hm
  have hj16 : ∀ (S : MS) (x1 : Int32) (s1 : Int32) (cl sl : Nat), cl + (1) ≤ 1 → sl + (2) ≤ 2 → m_registerByPlain_j16 S x1 s1 = some R → zQ (IM h0 p g 0 0 S) G X cl sl 16 [some (zrf p), some (.int x1), none] [.int s1, zrf p] := by
    intro S x1 s1 cl sl hc hs hm
    unfold m_registerByPlain_j16 at hm
    obtain ⟨S1, e_S1, hm⟩ := lt_e hm
    refine zm_putI o fl_X3_123_3 rfl rfl ⟨rfl, rfl⟩ dX3_registerByPlain_16 e_S1 ?_
    refine zQ.s (fun h => zs_aload_n (i := 0) o dX3_registerByPlain_19 rfl rfl) ?_
    refine zQ.s (fun h => zs_aload_n (i := 0) o dX3_registerByPlain_20 rfl rfl) ?_
    refine zm_getI o fl_X3_150_3 rfl dX3_registerByPlain_21 ?_
    obtain ⟨y2, c_y2, hm⟩ := bd_e hm
    refine zm_Vq o ml_X3_352 (M_plain G p g _ _ _ c_y2) dX3_registerByPlain_24 rfl rfl rfl rfl (by omega) (by omega) (fun qv3 h_qv3 => ?_)
    refine zQ.s (fun h => zs_astore_n (i := 2) o dX3_registerByPlain_27 rfl (by decide) (Or.inr rfl) (by simp only [List.set_cons_succ, List.set_cons_zero]; rfl)) ?_
    refine zQ.s (fun h => zs_aload_n (i := 0) o dX3_registerByPlain_28 rfl rfl) ?_
    refine zm_getI o fl_X3_123_3 rfl dX3_registerByPlain_29 ?_
    refine zQ.b (fun h => zs_if_gt (tgt := 40) o dX3_registerByPlain_32 (by decide)) (fun c => ?_) (fun c => ?_)
    · have hm := if_e1 hm c
      refine zQ.fg (zl_n (zl_n (zl_n zl_0))) ?_
      refine zQ.i (J := IM h0 p g 0 0 y2) (fun h hI => ⟨hI.1, hI.2.1, fun z => absurd rfl z⟩) ?_
      exact hj40 _ _ _ (by omega) (by omega) hm
    · have hm := if_e2 hm c
      refine zQ.s (fun h => zs_aload_n (i := 2) o dX3_registerByPlain_35 rfl rfl) ?_
      refine zm_qlen o h_qv3 dX3_registerByPlain_36 ?_
      refine zQ.b (fun h => zs_if_ne (tgt := 44) o dX3_registerByPlain_37 (by decide)) (fun c => ?_) (fun c => ?_)
      · have hm := if_e2 hm c
        refine zQ.s (fun h => zs_aload_n (i := 0) o dX3_registerByPlain_44 rfl rfl) ?_
        refine zm_getR o fl_X3_114_3 rfl dX3_registerByPlain_45 ?_
        refine zQ.s (fun h => zs_iload_n (i := 1) o dX3_registerByPlain_48 rfl rfl) ?_
        obtain ⟨g4, hm⟩ := gd_e hm
        refine zm_iald o rfl dX3_registerByPlain_49 g4 ?_
        refine zQ.fg (zl_n (zl_n (zl_n zl_0))) ?_
        refine zQ.i (J := IM h0 p g 0 0 y2) (fun h hI => ⟨hI.1, hI.2.1, fun z => absurd rfl z⟩) ?_
        exact hj50 _ _ _ _ (by omega) (by omega) hm
      · have hm := if_e1 hm c
        refine zQ.fg (zl_n (zl_n (zl_n zl_0))) ?_
        refine zQ.i (J := IM h0 p g 0 0 y2) (fun h hI => ⟨hI.1, hI.2.1, fun z => absurd rfl z⟩) ?_
        exact hj40 _ _ _ (by omega) (by omega) hm
  unfold m_registerByPlain at hm
  refine zQ.s (fun h => zs_aload_n (i := 0) o dX3_registerByPlain_0 rfl rfl) ?_
  refine zQ.s (fun h => zs_iload_n (i := 1) o dX3_registerByPlain_1 rfl rfl) ?_
  refine zQ.s (fun h => zs_iconst (v := 0) o dX3_registerByPlain_2 (by decide)) ?_
  refine zQ.s (fun h => zs_bipush (v := 7) o dX3_registerByPlain_3 (by decide)) ?_
  obtain ⟨y1, c_y1, hm⟩ := bd_e hm
  refine zQ_Si o ml_X3_129 (M_in G _ _ _ _ c_y1) dX3_registerByPlain_5 rfl rfl rfl rfl (by omega) (by omega) ?_
  refine zQ.b (fun h => zs_if_eq (tgt := 15) o dX3_registerByPlain_8 (by decide)) (fun c => ?_) (fun c => ?_)
  · have hm := if_e1 hm c
    refine zQ.s (fun h => zs_iconst (v := 1) o dX3_registerByPlain_15 (by decide)) ?_
    exact hj16 _ _ _ _ _ (by omega) (by omega) hm
  · have hm := if_e2 hm c
    refine zQ.s (fun h => zs_iconst (v := 0) o dX3_registerByPlain_11 (by decide)) ?_
    refine zQ.s (fun h => zs_goto (tgt := 16) o dX3_registerByPlain_12 (by decide)) ?_
    exact hj16 _ _ _ _ _ (by omega) (by omega) hm

def m_word_j33 (S : MS) (s0 : Int32) : Option (MS × Int32) :=
  some (S, s0)
def m_word_j13 (S : MS) (x1 : Int32) (s1 : Int32) : Option (MS × Int32) :=
  lt (tS S 54 s1) fun S1 =>
  if (mS S1 54) ≤ (0 : Int32) then
    gd (inb x1 64) <|
    m_word_j33 S1 (mA S1 15 (ix x1))
  else
    m_word_j33 S1 (0 : Int32)
def m_word (S : MS) (a1 : Int32) : Option (MS × Int32) :=
  bd (m_isAddress a1) fun y1 =>
  if y1 = (0 : Int32) then
    m_word_j13 S a1 (1 : Int32)
  else
    m_word_j13 S a1 (0 : Int32)

set_option maxHeartbeats 40000000 in
theorem M_word (G : zG) (p : Nat) (g : MG) (q n : Nat) (S : MS) (a1 : Int32) (V : Int32) (S9 : MS) (hm : m_word S a1 = some (S9, V)) : zMi G yX3_word cX3_word 2 (some .int) 2 0 0 p g q n [.int a1] S V S9 := by
  intro h0 h hI0
  refine zCo.st [some (zrf p), some (.int a1)] rfl rfl (by simp only [zarg_r, zarg_i, zarg_l, zarg_0]; rfl) (fun X o f0 hin hw0 => ?_)
  have f := f0.e
  refine (?_ : zQ (IM h0 p g q n S) G X 0 0 0 [some (zrf p), some (.int a1)] []) h hI0 hw0
  clear hI0 hw0
  generalize hR9 : ((S9, V) : (MS × Int32)) = R at hm
  have hj33 : ∀ (S : MS) (s0 : Int32) (cl sl : Nat), cl + (0) ≤ 0 → sl + (0) ≤ 0 → m_word_j33 S s0 = some R → zQ (IM h0 p g q n S) G X cl sl 33 [none, none] [.int s0] := by
    intro S s0 cl sl hc hs hm
    unfold m_word_j33 at hm
    refine zm_reti o f dX3_word_33 rfl (by omega) (by omega) ((so_e hm).trans hR9.symm)
  have hj13 : ∀ (S : MS) (x1 : Int32) (s1 : Int32) (cl sl : Nat), cl + (0) ≤ 0 → sl + (0) ≤ 0 → m_word_j13 S x1 s1 = some R → zQ (IM h0 p g q n S) G X cl sl 13 [some (zrf p), some (.int x1)] [.int s1, zrf p] := by
    intro S x1 s1 cl sl hc hs hm
    unfold m_word_j13 at hm
    obtain ⟨S1, e_S1, hm⟩ := lt_e hm
    refine zm_putI o fl_X3_123_3 rfl rfl ⟨rfl, rfl⟩ dX3_word_13 e_S1 ?_
    refine zQ.s (fun h => zs_aload_n (i := 0) o dX3_word_16 rfl rfl) ?_
    refine zm_getI o fl_X3_123_3 rfl dX3_word_17 ?_
    refine zQ.b (fun h => zs_if_le (tgt := 27) o dX3_word_20 (by decide)) (fun c => ?_) (fun c => ?_)
    · have hm := if_e1 hm c
      refine zQ.s (fun h => zs_aload_n (i := 0) o dX3_word_27 rfl rfl) ?_
      refine zm_getR o fl_X3_53_3 rfl dX3_word_28 ?_
      refine zQ.s (fun h => zs_iload_n (i := 1) o dX3_word_31 rfl rfl) ?_
      obtain ⟨g2, hm⟩ := gd_e hm
      refine zm_iald o rfl dX3_word_32 g2 ?_
      refine zQ.fg (zl_n (zl_n zl_0)) ?_
      exact hj33 _ _ _ _ (by omega) (by omega) hm
    · have hm := if_e2 hm c
      refine zQ.s (fun h => zs_iconst (v := 0) o dX3_word_23 (by decide)) ?_
      refine zQ.s (fun h => zs_goto (tgt := 33) o dX3_word_24 (by decide)) ?_
      refine zQ.fg (zl_n (zl_n zl_0)) ?_
      exact hj33 _ _ _ _ (by omega) (by omega) hm
  unfold m_word at hm
  refine zQ.s (fun h => zs_aload_n (i := 0) o dX3_word_0 rfl rfl) ?_
  refine zQ.s (fun h => zs_iload_n (i := 1) o dX3_word_1 rfl rfl) ?_
  obtain ⟨y1, c_y1, hm⟩ := bd_e hm
  refine zQ_Si o ml_X3_225 (M_isAddress G _ _ c_y1) dX3_word_2 rfl rfl rfl rfl (by omega) (by omega) ?_
  refine zQ.b (fun h => zs_if_eq (tgt := 12) o dX3_word_5 (by decide)) (fun c => ?_) (fun c => ?_)
  · have hm := if_e1 hm c
    refine zQ.s (fun h => zs_iconst (v := 1) o dX3_word_12 (by decide)) ?_
    exact hj13 _ _ _ _ _ (by omega) (by omega) hm
  · have hm := if_e2 hm c
    refine zQ.s (fun h => zs_iconst (v := 0) o dX3_word_8 (by decide)) ?_
    refine zQ.s (fun h => zs_goto (tgt := 13) o dX3_word_9 (by decide)) ?_
    exact hj13 _ _ _ _ _ (by omega) (by omega) hm

def m_wordByPlain_j47 (S : MS) (s0 : Int32) : Option (MS × Int32) :=
  some (S, s0)
def m_wordByPlain_j37 (S : MS) : Option (MS × Int32) :=
  m_wordByPlain_j47 S (0 : Int32)
def m_wordByPlain_j13 (S : MS) (x1 : Int32) (s1 : Int32) : Option (MS × Int32) :=
  lt (tS S 54 s1) fun S1 =>
  bd (m_plain S1 (mS S1 46)) fun y2 =>
  if (0 : Int32) < (mS y2 54) then
    m_wordByPlain_j37 y2
  else
    if (nI 2) = (0 : Int32) then
      m_wordByPlain_j37 y2
    else
      gd (inb x1 64) <|
      m_wordByPlain_j47 y2 (mA y2 56 (ix x1))
def m_wordByPlain (S : MS) (a1 : Int32) : Option (MS × Int32) :=
  bd (m_isAddress a1) fun y1 =>
  if y1 = (0 : Int32) then
    m_wordByPlain_j13 S a1 (1 : Int32)
  else
    m_wordByPlain_j13 S a1 (0 : Int32)

set_option maxHeartbeats 40000000 in
theorem M_wordByPlain (G : zG) (p : Nat) (g : MG) (S : MS) (a1 : Int32) (V : Int32) (S9 : MS) (hm : m_wordByPlain S a1 = some (S9, V)) : zMi G yX3_wordByPlain cX3_wordByPlain 3 (some .int) 4 1 2 p g 0 0 [.int a1] S V S9 := by
  intro h0 h hI0
  refine zCo.st [some (zrf p), some (.int a1), none] rfl rfl (by simp only [zarg_r, zarg_i, zarg_l, zarg_0]; rfl) (fun X o f0 hin hw0 => ?_)
  have f := f0.e
  refine (?_ : zQ (IM h0 p g 0 0 S) G X 0 0 0 [some (zrf p), some (.int a1), none] []) h hI0 hw0
  clear hI0 hw0
  generalize hR9 : ((S9, V) : (MS × Int32)) = R at hm
  have hj47 : ∀ (S : MS) (s0 : Int32) (cl sl : Nat), cl + (0) ≤ 1 → sl + (0) ≤ 2 → m_wordByPlain_j47 S s0 = some R → zQ (IM h0 p g 0 0 S) G X cl sl 47 [none, none, none] [.int s0] := by
    intro S s0 cl sl hc hs hm
    unfold m_wordByPlain_j47 at hm
    refine zm_reti o f dX3_wordByPlain_47 rfl (by omega) (by omega) ((so_e hm).trans hR9.symm)
  have hj37 : ∀ (S : MS) (cl sl : Nat), cl + (0) ≤ 1 → sl + (0) ≤ 2 → m_wordByPlain_j37 S = some R → zQ (IM h0 p g 0 0 S) G X cl sl 37 [none, none, none] [] := by
    intro S cl sl hc hs hm
    unfold m_wordByPlain_j37 at hm
    refine zQ.s (fun h => zs_iconst (v := 0) o dX3_wordByPlain_37 (by decide)) ?_
    refine zQ.s (fun h => zs_goto (tgt := 47) o dX3_wordByPlain_38 (by decide)) ?_
    exact hj47 _ _ _ _ (by omega) (by omega) hm
  have hj13 : ∀ (S : MS) (x1 : Int32) (s1 : Int32) (cl sl : Nat), cl + (1) ≤ 1 → sl + (2) ≤ 2 → m_wordByPlain_j13 S x1 s1 = some R → zQ (IM h0 p g 0 0 S) G X cl sl 13 [some (zrf p), some (.int x1), none] [.int s1, zrf p] := by
    intro S x1 s1 cl sl hc hs hm
    unfold m_wordByPlain_j13 at hm
    obtain ⟨S1, e_S1, hm⟩ := lt_e hm
    refine zm_putI o fl_X3_123_3 rfl rfl ⟨rfl, rfl⟩ dX3_wordByPlain_13 e_S1 ?_
    refine zQ.s (fun h => zs_aload_n (i := 0) o dX3_wordByPlain_16 rfl rfl) ?_
    refine zQ.s (fun h => zs_aload_n (i := 0) o dX3_wordByPlain_17 rfl rfl) ?_
    refine zm_getI o fl_X3_150_3 rfl dX3_wordByPlain_18 ?_
    obtain ⟨y2, c_y2, hm⟩ := bd_e hm
    refine zm_Vq o ml_X3_352 (M_plain G p g _ _ _ c_y2) dX3_wordByPlain_21 rfl rfl rfl rfl (by omega) (by omega) (fun qv3 h_qv3 => ?_)
    refine zQ.s (fun h => zs_astore_n (i := 2) o dX3_wordByPlain_24 rfl (by decide) (Or.inr rfl) (by simp only [List.set_cons_succ, List.set_cons_zero]; rfl)) ?_
    refine zQ.s (fun h => zs_aload_n (i := 0) o dX3_wordByPlain_25 rfl rfl) ?_
    refine zm_getI o fl_X3_123_3 rfl dX3_wordByPlain_26 ?_
    refine zQ.b (fun h => zs_if_gt (tgt := 37) o dX3_wordByPlain_29 (by decide)) (fun c => ?_) (fun c => ?_)
    · have hm := if_e1 hm c
      refine zQ.fg (zl_n (zl_n (zl_n zl_0))) ?_
      refine zQ.i (J := IM h0 p g 0 0 y2) (fun h hI => ⟨hI.1, hI.2.1, fun z => absurd rfl z⟩) ?_
      exact hj37 _ _ _ (by omega) (by omega) hm
    · have hm := if_e2 hm c
      refine zQ.s (fun h => zs_aload_n (i := 2) o dX3_wordByPlain_32 rfl rfl) ?_
      refine zm_qlen o h_qv3 dX3_wordByPlain_33 ?_
      refine zQ.b (fun h => zs_if_ne (tgt := 41) o dX3_wordByPlain_34 (by decide)) (fun c => ?_) (fun c => ?_)
      · have hm := if_e2 hm c
        refine zQ.s (fun h => zs_aload_n (i := 0) o dX3_wordByPlain_41 rfl rfl) ?_
        refine zm_getR o fl_X3_117_3 rfl dX3_wordByPlain_42 ?_
        refine zQ.s (fun h => zs_iload_n (i := 1) o dX3_wordByPlain_45 rfl rfl) ?_
        obtain ⟨g4, hm⟩ := gd_e hm
        refine zm_iald o rfl dX3_wordByPlain_46 g4 ?_
        refine zQ.fg (zl_n (zl_n (zl_n zl_0))) ?_
        refine zQ.i (J := IM h0 p g 0 0 y2) (fun h hI => ⟨hI.1, hI.2.1, fun z => absurd rfl z⟩) ?_
        exact hj47 _ _ _ _ (by omega) (by omega) hm
      · have hm := if_e1 hm c
        refine zQ.fg (zl_n (zl_n (zl_n zl_0))) ?_
        refine zQ.i (J := IM h0 p g 0 0 y2) (fun h hI => ⟨hI.1, hI.2.1, fun z => absurd rfl z⟩) ?_
        exact hj37 _ _ _ (by omega) (by omega) hm
  unfold m_wordByPlain at hm
  refine zQ.s (fun h => zs_aload_n (i := 0) o dX3_wordByPlain_0 rfl rfl) ?_
  refine zQ.s (fun h => zs_iload_n (i := 1) o dX3_wordByPlain_1 rfl rfl) ?_
  obtain ⟨y1, c_y1, hm⟩ := bd_e hm
  refine zQ_Si o ml_X3_225 (M_isAddress G _ _ c_y1) dX3_wordByPlain_2 rfl rfl rfl rfl (by omega) (by omega) ?_
  refine zQ.b (fun h => zs_if_eq (tgt := 12) o dX3_wordByPlain_5 (by decide)) (fun c => ?_) (fun c => ?_)
  · have hm := if_e1 hm c
    refine zQ.s (fun h => zs_iconst (v := 1) o dX3_wordByPlain_12 (by decide)) ?_
    exact hj13 _ _ _ _ _ (by omega) (by omega) hm
  · have hm := if_e2 hm c
    refine zQ.s (fun h => zs_iconst (v := 0) o dX3_wordByPlain_8 (by decide)) ?_
    refine zQ.s (fun h => zs_goto (tgt := 13) o dX3_wordByPlain_9 (by decide)) ?_
    exact hj13 _ _ _ _ _ (by omega) (by omega) hm

def m_kept_j31 (S : MS) (s0 : Int32) : Option (MS × Int32) :=
  some (S, s0)
def m_kept_j13 (S : MS) (s1 : Int32) : Option (MS × Int32) :=
  lt (tS S 54 s1) fun S1 =>
  if (mS S1 54) ≤ (0 : Int32) then
    m_kept_j31 S1 (mS S1 40)
  else
    m_kept_j31 S1 (0 : Int32)
def m_kept (S : MS) : Option (MS × Int32) :=
  if (mS S 39) = (0 : Int32) then
    m_kept_j13 S (1 : Int32)
  else
    m_kept_j13 S (0 : Int32)

set_option maxHeartbeats 40000000 in
theorem M_kept (G : zG) (p : Nat) (g : MG) (q n : Nat) (S : MS) (V : Int32) (S9 : MS) (hm : m_kept S = some (S9, V)) : zMi G yX3_kept cX3_kept 1 (some .int) 0 0 0 p g q n [] S V S9 := by
  intro h0 h hI0
  refine zCo.st [some (zrf p)] rfl rfl (by simp only [zarg_r, zarg_i, zarg_l, zarg_0]; rfl) (fun X o f0 hin hw0 => ?_)
  have f := f0.e
  refine (?_ : zQ (IM h0 p g q n S) G X 0 0 0 [some (zrf p)] []) h hI0 hw0
  clear hI0 hw0
  generalize hR9 : ((S9, V) : (MS × Int32)) = R at hm
  have hj31 : ∀ (S : MS) (s0 : Int32) (cl sl : Nat), cl + (0) ≤ 0 → sl + (0) ≤ 0 → m_kept_j31 S s0 = some R → zQ (IM h0 p g q n S) G X cl sl 31 [none] [.int s0] := by
    intro S s0 cl sl hc hs hm
    unfold m_kept_j31 at hm
    refine zm_reti o f dX3_kept_31 rfl (by omega) (by omega) ((so_e hm).trans hR9.symm)
  have hj13 : ∀ (S : MS) (s1 : Int32) (cl sl : Nat), cl + (0) ≤ 0 → sl + (0) ≤ 0 → m_kept_j13 S s1 = some R → zQ (IM h0 p g q n S) G X cl sl 13 [some (zrf p)] [.int s1, zrf p] := by
    intro S s1 cl sl hc hs hm
    unfold m_kept_j13 at hm
    obtain ⟨S1, e_S1, hm⟩ := lt_e hm
    refine zm_putI o fl_X3_123_3 rfl rfl ⟨rfl, rfl⟩ dX3_kept_13 e_S1 ?_
    refine zQ.s (fun h => zs_aload_n (i := 0) o dX3_kept_16 rfl rfl) ?_
    refine zm_getI o fl_X3_123_3 rfl dX3_kept_17 ?_
    refine zQ.b (fun h => zs_if_le (tgt := 27) o dX3_kept_20 (by decide)) (fun c => ?_) (fun c => ?_)
    · have hm := if_e1 hm c
      refine zQ.s (fun h => zs_aload_n (i := 0) o dX3_kept_27 rfl rfl) ?_
      refine zm_getI o fl_X3_288_3 rfl dX3_kept_28 ?_
      refine zQ.fg (zl_n zl_0) ?_
      exact hj31 _ _ _ _ (by omega) (by omega) hm
    · have hm := if_e2 hm c
      refine zQ.s (fun h => zs_iconst (v := 0) o dX3_kept_23 (by decide)) ?_
      refine zQ.s (fun h => zs_goto (tgt := 31) o dX3_kept_24 (by decide)) ?_
      refine zQ.fg (zl_n zl_0) ?_
      exact hj31 _ _ _ _ (by omega) (by omega) hm
  unfold m_kept at hm
  refine zQ.s (fun h => zs_aload_n (i := 0) o dX3_kept_0 rfl rfl) ?_
  refine zQ.s (fun h => zs_aload_n (i := 0) o dX3_kept_1 rfl rfl) ?_
  refine zm_getI o fl_X3_291_3 rfl dX3_kept_2 ?_
  refine zQ.b (fun h => zs_if_eq (tgt := 12) o dX3_kept_5 (by decide)) (fun c => ?_) (fun c => ?_)
  · have hm := if_e1 hm c
    refine zQ.s (fun h => zs_iconst (v := 1) o dX3_kept_12 (by decide)) ?_
    exact hj13 _ _ _ _ (by omega) (by omega) hm
  · have hm := if_e2 hm c
    refine zQ.s (fun h => zs_iconst (v := 0) o dX3_kept_8 (by decide)) ?_
    refine zQ.s (fun h => zs_goto (tgt := 13) o dX3_kept_9 (by decide)) ?_
    exact hj13 _ _ _ _ (by omega) (by omega) hm

def m_life_j83 (S : MS) (s0 : Int32) : Option (MS × Int32) :=
  some (S, s0)
def m_life_j64 (S : MS) (x1 : Int32) (x2 : Int32) (x3 : Int32) (s1 : Int32) : Option (MS × Int32) :=
  lt (tS S 54 s1) fun S1 =>
  if x3 = (0 : Int32) then
    m_life_j83 S1 (0 : Int32)
  else
    gd (inb x1 2004) <|
    gd (mE S1 (ix x1) == 1) <|
    gd (inb x2 5) <|
    m_life_j83 S1 (mF S1 (ix x1) (ix x2))
def m_life_j53 (S : MS) (x1 : Int32) (x2 : Int32) (s0 : Int32) : Option (MS × Int32) :=
  if s0 = (0 : Int32) then
    m_life_j64 S x1 x2 s0 (3 : Int32)
  else
    m_life_j64 S x1 x2 s0 (0 : Int32)
def m_life_j52 (S : MS) (x1 : Int32) (x2 : Int32) : Option (MS × Int32) :=
  m_life_j53 S x1 x2 (0 : Int32)
def m_life (S : MS) (a1 : Int32) (a2 : Int32) : Option (MS × Int32) :=
  bd (m_noEnd S a1) fun y1 =>
  if y1.2 = (0 : Int32) then
    bd (m_in a2 (0 : Int32) (4 : Int32)) fun y2 =>
    if y2 = (0 : Int32) then
      bd (m_raises y1.1 (2 : Int32)) fun y7 =>
      some (y7.1, y7.2)
    else
      gd (inb a1 2004) <|
      if (mA y1.1 43 (ix a1)) = (9 : Int32) then
        m_life_j52 y1.1 a1 a2
      else
        gd (inb a1 2004) <|
        gd (mE y1.1 (ix a1) == 1) <|
        gd (inb a2 5) <|
        if (mF y1.1 (ix a1) (ix a2)) = (-1 : Int32) then
          m_life_j52 y1.1 a1 a2
        else
          m_life_j53 y1.1 a1 a2 (1 : Int32)
  else
    some (y1.1, (0 : Int32))

set_option maxHeartbeats 40000000 in
theorem M_life (G : zG) (p : Nat) (g : MG) (q n : Nat) (S : MS) (a1 : Int32) (a2 : Int32) (V : Int32) (S9 : MS) (hm : m_life S a1 a2 = some (S9, V)) : zMi G yX3_life cX3_life 4 (some .int) 2 0 0 p g q n [.int a1, .int a2] S V S9 := by
  intro h0 h hI0
  refine zCo.st [some (zrf p), some (.int a1), some (.int a2), none] rfl rfl (by simp only [zarg_r, zarg_i, zarg_l, zarg_0]; rfl) (fun X o f0 hin hw0 => ?_)
  have f := f0.e
  refine (?_ : zQ (IM h0 p g q n S) G X 0 0 0 [some (zrf p), some (.int a1), some (.int a2), none] []) h hI0 hw0
  clear hI0 hw0
  generalize hR9 : ((S9, V) : (MS × Int32)) = R at hm
  have hj83 : ∀ (S : MS) (s0 : Int32) (cl sl : Nat), cl + (0) ≤ 0 → sl + (0) ≤ 0 → m_life_j83 S s0 = some R → zQ (IM h0 p g q n S) G X cl sl 83 [none, none, none, none] [.int s0] := by
    intro S s0 cl sl hc hs hm
    unfold m_life_j83 at hm
    refine zm_reti o f dX3_life_83 rfl (by omega) (by omega) ((so_e hm).trans hR9.symm)
  have hj64 : ∀ (S : MS) (x1 : Int32) (x2 : Int32) (x3 : Int32) (s1 : Int32) (cl sl : Nat), cl + (0) ≤ 0 → sl + (0) ≤ 0 → m_life_j64 S x1 x2 x3 s1 = some R → zQ (IM h0 p g q n S) G X cl sl 64 [some (zrf p), some (.int x1), some (.int x2), some (.int x3)] [.int s1, zrf p] := by
    intro S x1 x2 x3 s1 cl sl hc hs hm
    unfold m_life_j64 at hm
    obtain ⟨S1, e_S1, hm⟩ := lt_e hm
    refine zm_putI o fl_X3_123_3 rfl rfl ⟨rfl, rfl⟩ dX3_life_64 e_S1 ?_
    refine zQ.s (fun h => zs_iload_n (i := 3) o dX3_life_67 rfl rfl) ?_
    refine zQ.b (fun h => zs_if_eq (tgt := 82) o dX3_life_68 (by decide)) (fun c => ?_) (fun c => ?_)
    · have hm := if_e1 hm c
      refine zQ.s (fun h => zs_iconst (v := 0) o dX3_life_82 (by decide)) ?_
      refine zQ.fg (zl_n (zl_n (zl_n (zl_n zl_0)))) ?_
      exact hj83 _ _ _ _ (by omega) (by omega) hm
    · have hm := if_e2 hm c
      refine zQ.s (fun h => zs_aload_n (i := 0) o dX3_life_71 rfl rfl) ?_
      refine zm_getR o fl_X3_108_3 rfl dX3_life_72 ?_
      refine zQ.s (fun h => zs_iload_n (i := 1) o dX3_life_75 rfl rfl) ?_
      obtain ⟨g2, hm⟩ := gd_e hm
      obtain ⟨g3, hm⟩ := gd_e hm
      obtain ⟨g4, hm⟩ := gd_e hm
      refine zm_life (j := 2) o dX3_life_76 dX3_life_77 dX3_life_78 rfl rfl g2 g3 g4 ?_
      refine zQ.s (fun h => zs_goto (tgt := 83) o dX3_life_79 (by decide)) ?_
      refine zQ.fg (zl_n (zl_n (zl_n (zl_n zl_0)))) ?_
      exact hj83 _ _ _ _ (by omega) (by omega) hm
  have hj53 : ∀ (S : MS) (x1 : Int32) (x2 : Int32) (s0 : Int32) (cl sl : Nat), cl + (0) ≤ 0 → sl + (0) ≤ 0 → m_life_j53 S x1 x2 s0 = some R → zQ (IM h0 p g q n S) G X cl sl 53 [some (zrf p), some (.int x1), some (.int x2), none] [.int s0] := by
    intro S x1 x2 s0 cl sl hc hs hm
    unfold m_life_j53 at hm
    refine zQ.s (fun h => zs_istore_n (i := 3) o dX3_life_53 rfl (by decide) (Or.inr rfl) (by simp only [List.set_cons_succ, List.set_cons_zero]; rfl)) ?_
    refine zQ.s (fun h => zs_aload_n (i := 0) o dX3_life_54 rfl rfl) ?_
    refine zQ.s (fun h => zs_iload_n (i := 3) o dX3_life_55 rfl rfl) ?_
    refine zQ.b (fun h => zs_if_eq (tgt := 63) o dX3_life_56 (by decide)) (fun c => ?_) (fun c => ?_)
    · have hm := if_e1 hm c
      refine zQ.s (fun h => zs_iconst (v := 3) o dX3_life_63 (by decide)) ?_
      exact hj64 _ _ _ _ _ _ _ (by omega) (by omega) hm
    · have hm := if_e2 hm c
      refine zQ.s (fun h => zs_iconst (v := 0) o dX3_life_59 (by decide)) ?_
      refine zQ.s (fun h => zs_goto (tgt := 64) o dX3_life_60 (by decide)) ?_
      exact hj64 _ _ _ _ _ _ _ (by omega) (by omega) hm
  have hj52 : ∀ (S : MS) (x1 : Int32) (x2 : Int32) (cl sl : Nat), cl + (0) ≤ 0 → sl + (0) ≤ 0 → m_life_j52 S x1 x2 = some R → zQ (IM h0 p g q n S) G X cl sl 52 [some (zrf p), some (.int x1), some (.int x2), none] [] := by
    intro S x1 x2 cl sl hc hs hm
    unfold m_life_j52 at hm
    refine zQ.s (fun h => zs_iconst (v := 0) o dX3_life_52 (by decide)) ?_
    exact hj53 _ _ _ _ _ _ (by omega) (by omega) hm
  unfold m_life at hm
  refine zQ.s (fun h => zs_aload_n (i := 0) o dX3_life_0 rfl rfl) ?_
  refine zQ.s (fun h => zs_iload_n (i := 1) o dX3_life_1 rfl rfl) ?_
  obtain ⟨y1, c_y1, hm⟩ := bd_e hm
  refine zm_Vi o ml_X3_328 (M_noEnd G p g _ _ _ _ _ _ c_y1) dX3_life_2 rfl rfl rfl rfl (by omega) (by omega) ?_
  refine zQ.b (fun h => zs_if_eq (tgt := 10) o dX3_life_5 (by decide)) (fun c => ?_) (fun c => ?_)
  · have hm := if_e1 hm c
    refine zQ.s (fun h => zs_iload_n (i := 2) o dX3_life_10 rfl rfl) ?_
    refine zQ.s (fun h => zs_iconst (v := 0) o dX3_life_11 (by decide)) ?_
    refine zQ.s (fun h => zs_iconst (v := 4) o dX3_life_12 (by decide)) ?_
    obtain ⟨y2, c_y2, hm⟩ := bd_e hm
    refine zQ_Si o ml_X3_129 (M_in G _ _ _ _ c_y2) dX3_life_13 rfl rfl rfl rfl (by omega) (by omega) ?_
    refine zQ.b (fun h => zs_if_ne (tgt := 25) o dX3_life_16 (by decide)) (fun c => ?_) (fun c => ?_)
    · have hm := if_e2 hm c
      refine zQ.s (fun h => zs_aload_n (i := 0) o dX3_life_25 rfl rfl) ?_
      refine zm_getR o fl_X3_101_3 rfl dX3_life_26 ?_
      refine zQ.s (fun h => zs_iload_n (i := 1) o dX3_life_29 rfl rfl) ?_
      obtain ⟨g3, hm⟩ := gd_e hm
      refine zm_iald o rfl dX3_life_30 g3 ?_
      refine zQ.s (fun h => zs_bipush (v := 9) o dX3_life_31 (by decide)) ?_
      refine zQ.b (fun h => zs_icmp_eq (tgt := 52) o dX3_life_33 (by decide)) (fun c => ?_) (fun c => ?_)
      · have hm := if_e1 hm c
        exact hj52 _ _ _ _ _ (by omega) (by omega) hm
      · have hm := if_e2 hm c
        refine zQ.s (fun h => zs_aload_n (i := 0) o dX3_life_36 rfl rfl) ?_
        refine zm_getR o fl_X3_108_3 rfl dX3_life_37 ?_
        refine zQ.s (fun h => zs_iload_n (i := 1) o dX3_life_40 rfl rfl) ?_
        obtain ⟨g4, hm⟩ := gd_e hm
        obtain ⟨g5, hm⟩ := gd_e hm
        obtain ⟨g6, hm⟩ := gd_e hm
        refine zm_life (j := 2) o dX3_life_41 dX3_life_42 dX3_life_43 rfl rfl g4 g5 g6 ?_
        refine zQ.s (fun h => zs_iconst (v := -1) o dX3_life_44 (by decide)) ?_
        refine zQ.b (fun h => zs_icmp_eq (tgt := 52) o dX3_life_45 (by decide)) (fun c => ?_) (fun c => ?_)
        · have hm := if_e1 hm c
          exact hj52 _ _ _ _ _ (by omega) (by omega) hm
        · have hm := if_e2 hm c
          refine zQ.s (fun h => zs_iconst (v := 1) o dX3_life_48 (by decide)) ?_
          refine zQ.s (fun h => zs_goto (tgt := 53) o dX3_life_49 (by decide)) ?_
          exact hj53 _ _ _ _ _ _ (by omega) (by omega) hm
    · have hm := if_e1 hm c
      refine zQ.s (fun h => zs_aload_n (i := 0) o dX3_life_19 rfl rfl) ?_
      refine zQ.s (fun h => zs_iconst (v := 2) o dX3_life_20 (by decide)) ?_
      obtain ⟨y7, c_y7, hm⟩ := bd_e hm
      refine zm_Vi o ml_X3_356 (M_raises G p g _ _ _ _ _ _ c_y7) dX3_life_21 rfl rfl rfl rfl (by omega) (by omega) ?_
      refine zm_reti o f dX3_life_24 rfl (by omega) (by omega) ((so_e hm).trans hR9.symm)
  · have hm := if_e2 hm c
    refine zQ.s (fun h => zs_iconst (v := 0) o dX3_life_8 (by decide)) ?_
    refine zm_reti o f dX3_life_9 rfl (by omega) (by omega) ((so_e hm).trans hR9.symm)

def m_inner_j36 (S : MS) (s0 : Int32) : Option (MS × Int32) :=
  some (S, s0)
def m_inner_j16 (S : MS) (x1 : Int32) (s1 : Int32) : Option (MS × Int32) :=
  lt (tS S 54 s1) fun S1 =>
  if (mS S1 54) ≤ (0 : Int32) then
    gd (inb x1 8) <|
    m_inner_j36 S1 (mA S1 16 (ix x1))
  else
    m_inner_j36 S1 (0 : Int32)
def m_inner (S : MS) (a1 : Int32) : Option (MS × Int32) :=
  bd (m_in a1 (0 : Int32) (7 : Int32)) fun y1 =>
  if y1 = (0 : Int32) then
    m_inner_j16 S a1 (1 : Int32)
  else
    m_inner_j16 S a1 (0 : Int32)

set_option maxHeartbeats 40000000 in
theorem M_inner (G : zG) (p : Nat) (g : MG) (q n : Nat) (S : MS) (a1 : Int32) (V : Int32) (S9 : MS) (hm : m_inner S a1 = some (S9, V)) : zMi G yX3_inner cX3_inner 2 (some .int) 1 0 0 p g q n [.int a1] S V S9 := by
  intro h0 h hI0
  refine zCo.st [some (zrf p), some (.int a1)] rfl rfl (by simp only [zarg_r, zarg_i, zarg_l, zarg_0]; rfl) (fun X o f0 hin hw0 => ?_)
  have f := f0.e
  refine (?_ : zQ (IM h0 p g q n S) G X 0 0 0 [some (zrf p), some (.int a1)] []) h hI0 hw0
  clear hI0 hw0
  generalize hR9 : ((S9, V) : (MS × Int32)) = R at hm
  have hj36 : ∀ (S : MS) (s0 : Int32) (cl sl : Nat), cl + (0) ≤ 0 → sl + (0) ≤ 0 → m_inner_j36 S s0 = some R → zQ (IM h0 p g q n S) G X cl sl 36 [none, none] [.int s0] := by
    intro S s0 cl sl hc hs hm
    unfold m_inner_j36 at hm
    refine zm_reti o f dX3_inner_36 rfl (by omega) (by omega) ((so_e hm).trans hR9.symm)
  have hj16 : ∀ (S : MS) (x1 : Int32) (s1 : Int32) (cl sl : Nat), cl + (0) ≤ 0 → sl + (0) ≤ 0 → m_inner_j16 S x1 s1 = some R → zQ (IM h0 p g q n S) G X cl sl 16 [some (zrf p), some (.int x1)] [.int s1, zrf p] := by
    intro S x1 s1 cl sl hc hs hm
    unfold m_inner_j16 at hm
    obtain ⟨S1, e_S1, hm⟩ := lt_e hm
    refine zm_putI o fl_X3_123_3 rfl rfl ⟨rfl, rfl⟩ dX3_inner_16 e_S1 ?_
    refine zQ.s (fun h => zs_aload_n (i := 0) o dX3_inner_19 rfl rfl) ?_
    refine zm_getI o fl_X3_123_3 rfl dX3_inner_20 ?_
    refine zQ.b (fun h => zs_if_le (tgt := 30) o dX3_inner_23 (by decide)) (fun c => ?_) (fun c => ?_)
    · have hm := if_e1 hm c
      refine zQ.s (fun h => zs_aload_n (i := 0) o dX3_inner_30 rfl rfl) ?_
      refine zm_getR o fl_X3_56_3 rfl dX3_inner_31 ?_
      refine zQ.s (fun h => zs_iload_n (i := 1) o dX3_inner_34 rfl rfl) ?_
      obtain ⟨g2, hm⟩ := gd_e hm
      refine zm_iald o rfl dX3_inner_35 g2 ?_
      refine zQ.fg (zl_n (zl_n zl_0)) ?_
      exact hj36 _ _ _ _ (by omega) (by omega) hm
    · have hm := if_e2 hm c
      refine zQ.s (fun h => zs_iconst (v := 0) o dX3_inner_26 (by decide)) ?_
      refine zQ.s (fun h => zs_goto (tgt := 36) o dX3_inner_27 (by decide)) ?_
      refine zQ.fg (zl_n (zl_n zl_0)) ?_
      exact hj36 _ _ _ _ (by omega) (by omega) hm
  unfold m_inner at hm
  refine zQ.s (fun h => zs_aload_n (i := 0) o dX3_inner_0 rfl rfl) ?_
  refine zQ.s (fun h => zs_iload_n (i := 1) o dX3_inner_1 rfl rfl) ?_
  refine zQ.s (fun h => zs_iconst (v := 0) o dX3_inner_2 (by decide)) ?_
  refine zQ.s (fun h => zs_bipush (v := 7) o dX3_inner_3 (by decide)) ?_
  obtain ⟨y1, c_y1, hm⟩ := bd_e hm
  refine zQ_Si o ml_X3_129 (M_in G _ _ _ _ c_y1) dX3_inner_5 rfl rfl rfl rfl (by omega) (by omega) ?_
  refine zQ.b (fun h => zs_if_eq (tgt := 15) o dX3_inner_8 (by decide)) (fun c => ?_) (fun c => ?_)
  · have hm := if_e1 hm c
    refine zQ.s (fun h => zs_iconst (v := 1) o dX3_inner_15 (by decide)) ?_
    exact hj16 _ _ _ _ _ (by omega) (by omega) hm
  · have hm := if_e2 hm c
    refine zQ.s (fun h => zs_iconst (v := 0) o dX3_inner_11 (by decide)) ?_
    refine zQ.s (fun h => zs_goto (tgt := 16) o dX3_inner_12 (by decide)) ?_
    exact hj16 _ _ _ _ _ (by omega) (by omega) hm

def m_innerAnew (S : MS) (a1 : Int32) : Option (MS × Int32) :=
  bd (m_inner S a1) fun y1 =>
  some (y1.1, y1.2)

set_option maxHeartbeats 40000000 in
theorem M_innerAnew (G : zG) (p : Nat) (g : MG) (q n : Nat) (S : MS) (a1 : Int32) (V : Int32) (S9 : MS) (hm : m_innerAnew S a1 = some (S9, V)) : zMi G yX3_innerAnew cX3_innerAnew 2 (some .int) 2 0 0 p g q n [.int a1] S V S9 := by
  intro h0 h hI0
  refine zCo.st [some (zrf p), some (.int a1)] rfl rfl (by simp only [zarg_r, zarg_i, zarg_l, zarg_0]; rfl) (fun X o f0 hin hw0 => ?_)
  have f := f0.e
  refine (?_ : zQ (IM h0 p g q n S) G X 0 0 0 [some (zrf p), some (.int a1)] []) h hI0 hw0
  clear hI0 hw0
  generalize hR9 : ((S9, V) : (MS × Int32)) = R at hm
  unfold m_innerAnew at hm
  refine zQ.s (fun h => zs_aload_n (i := 0) o dX3_innerAnew_0 rfl rfl) ?_
  refine zQ.s (fun h => zs_iload_n (i := 1) o dX3_innerAnew_1 rfl rfl) ?_
  obtain ⟨y1, c_y1, hm⟩ := bd_e hm
  refine zm_Vi o ml_X3_359 (M_inner G p g _ _ _ _ _ _ c_y1) dX3_innerAnew_2 rfl rfl rfl rfl (by omega) (by omega) ?_
  refine zm_reti o f dX3_innerAnew_5 rfl (by omega) (by omega) ((so_e hm).trans hR9.symm)

def m_noInner_j35 (S : MS) (s0 : Int32) : Option (MS × Int32) :=
  gd (b01 s0) <|
  some (S, s0)
def m_noInner_j20 (S : MS) (s1 : Int32) : Option (MS × Int32) :=
  lt (tS S 54 s1) fun S1 =>
  if (mS S1 54) ≤ (0 : Int32) then
    m_noInner_j35 S1 (0 : Int32)
  else
    m_noInner_j35 S1 (1 : Int32)
def m_noInner (S : MS) (a1 : Int32) : Option (MS × Int32) :=
  bd (m_in a1 (0 : Int32) ((mS S 9) - (1 : Int32))) fun y1 =>
  if y1 = (0 : Int32) then
    m_noInner_j20 S (1 : Int32)
  else
    m_noInner_j20 S (0 : Int32)

set_option maxHeartbeats 40000000 in
theorem M_noInner (G : zG) (p : Nat) (g : MG) (q n : Nat) (S : MS) (a1 : Int32) (V : Int32) (S9 : MS) (hm : m_noInner S a1 = some (S9, V)) : zMi G yX3_noInner cX3_noInner 2 (some .boolean) 1 0 0 p g q n [.int a1] S V S9 := by
  intro h0 h hI0
  refine zCo.st [some (zrf p), some (.int a1)] rfl rfl (by simp only [zarg_r, zarg_i, zarg_l, zarg_0]; rfl) (fun X o f0 hin hw0 => ?_)
  have f := f0.e
  refine (?_ : zQ (IM h0 p g q n S) G X 0 0 0 [some (zrf p), some (.int a1)] []) h hI0 hw0
  clear hI0 hw0
  generalize hR9 : ((S9, V) : (MS × Int32)) = R at hm
  have hj35 : ∀ (S : MS) (s0 : Int32) (cl sl : Nat), cl + (0) ≤ 0 → sl + (0) ≤ 0 → m_noInner_j35 S s0 = some R → zQ (IM h0 p g q n S) G X cl sl 35 [none, none] [.int s0] := by
    intro S s0 cl sl hc hs hm
    unfold m_noInner_j35 at hm
    obtain ⟨g1, hm⟩ := gd_e hm
    refine zm_reti o f dX3_noInner_35 (b01_e g1).1 (by omega) (by omega) ((so_e hm).trans hR9.symm)
  have hj20 : ∀ (S : MS) (s1 : Int32) (cl sl : Nat), cl + (0) ≤ 0 → sl + (0) ≤ 0 → m_noInner_j20 S s1 = some R → zQ (IM h0 p g q n S) G X cl sl 20 [some (zrf p), none] [.int s1, zrf p] := by
    intro S s1 cl sl hc hs hm
    unfold m_noInner_j20 at hm
    obtain ⟨S1, e_S1, hm⟩ := lt_e hm
    refine zm_putI o fl_X3_123_3 rfl rfl ⟨rfl, rfl⟩ dX3_noInner_20 e_S1 ?_
    refine zQ.s (fun h => zs_aload_n (i := 0) o dX3_noInner_23 rfl rfl) ?_
    refine zm_getI o fl_X3_123_3 rfl dX3_noInner_24 ?_
    refine zQ.b (fun h => zs_if_le (tgt := 34) o dX3_noInner_27 (by decide)) (fun c => ?_) (fun c => ?_)
    · have hm := if_e1 hm c
      refine zQ.s (fun h => zs_iconst (v := 0) o dX3_noInner_34 (by decide)) ?_
      refine zQ.fg (zl_n (zl_n zl_0)) ?_
      exact hj35 _ _ _ _ (by omega) (by omega) hm
    · have hm := if_e2 hm c
      refine zQ.s (fun h => zs_iconst (v := 1) o dX3_noInner_30 (by decide)) ?_
      refine zQ.s (fun h => zs_goto (tgt := 35) o dX3_noInner_31 (by decide)) ?_
      refine zQ.fg (zl_n (zl_n zl_0)) ?_
      exact hj35 _ _ _ _ (by omega) (by omega) hm
  unfold m_noInner at hm
  refine zQ.s (fun h => zs_aload_n (i := 0) o dX3_noInner_0 rfl rfl) ?_
  refine zQ.s (fun h => zs_iload_n (i := 1) o dX3_noInner_1 rfl rfl) ?_
  refine zQ.s (fun h => zs_iconst (v := 0) o dX3_noInner_2 (by decide)) ?_
  refine zQ.s (fun h => zs_aload_n (i := 0) o dX3_noInner_3 rfl rfl) ?_
  refine zm_getI o fl_X3_35_3 rfl dX3_noInner_4 ?_
  refine zQ.s (fun h => zs_iconst (v := 1) o dX3_noInner_7 (by decide)) ?_
  refine zQ.s (fun h => zs_isub o dX3_noInner_8) ?_
  obtain ⟨y1, c_y1, hm⟩ := bd_e hm
  refine zQ_Si o ml_X3_129 (M_in G _ _ _ _ c_y1) dX3_noInner_9 rfl rfl rfl rfl (by omega) (by omega) ?_
  refine zQ.b (fun h => zs_if_eq (tgt := 19) o dX3_noInner_12 (by decide)) (fun c => ?_) (fun c => ?_)
  · have hm := if_e1 hm c
    refine zQ.s (fun h => zs_iconst (v := 1) o dX3_noInner_19 (by decide)) ?_
    refine zQ.fg (zl_s (zl_n zl_0)) ?_
    exact hj20 _ _ _ _ (by omega) (by omega) hm
  · have hm := if_e2 hm c
    refine zQ.s (fun h => zs_iconst (v := 0) o dX3_noInner_15 (by decide)) ?_
    refine zQ.s (fun h => zs_goto (tgt := 20) o dX3_noInner_16 (by decide)) ?_
    refine zQ.fg (zl_s (zl_n zl_0)) ?_
    exact hj20 _ _ _ _ (by omega) (by omega) hm

def m_stateOf_j47 (k18 : MS → Int32 → Int32 → Int32 → Int32 → Option (MS × Int32)) (S : MS) (x1 : Int32) (x3 : Int32) (x4 : Int32) (s0 : Int32) : Option (MS × Int32) :=
  k18 S x1 s0 x3 (x4 + (1 : Int32))
def m_stateOf_j42 (k18 : MS → Int32 → Int32 → Int32 → Int32 → Option (MS × Int32)) (S : MS) (x1 : Int32) (x3 : Int32) (x4 : Int32) : Option (MS × Int32) :=
  m_stateOf_j47 k18 S x1 x3 x4 (1 : Int32)
def m_stateOf_j84 (k57 : MS → Int32 → Int32 → Int32 → Int32 → Option (MS × Int32)) (S : MS) (x1 : Int32) (x2 : Int32) (x4 : Int32) (s0 : Int32) : Option (MS × Int32) :=
  k57 S x1 x2 s0 (x4 + (1 : Int32))
def m_stateOf_j79 (k57 : MS → Int32 → Int32 → Int32 → Int32 → Option (MS × Int32)) (S : MS) (x1 : Int32) (x2 : Int32) (x4 : Int32) : Option (MS × Int32) :=
  m_stateOf_j84 k57 S x1 x2 x4 (1 : Int32)
def m_stateOf_j111 (S : MS) (s0 : Int32) : Option (MS × Int32) :=
  gd (chr s0) <|
  some (S, s0)
def m_stateOf_b57 (k57 : MS → Int32 → Int32 → Int32 → Int32 → Option (MS × Int32)) (S : MS) (x1 : Int32) (x2 : Int32) (x3 : Int32) (x4 : Int32) : Option (MS × Int32) :=
  if (8 : Int32) ≤ x4 then
    if x2 = (0 : Int32) then
      if x3 = (0 : Int32) then
        m_stateOf_j111 S (119 : Int32)
      else
        m_stateOf_j111 S (109 : Int32)
    else
      m_stateOf_j111 S (102 : Int32)
  else
    if x3 = (0 : Int32) then
      gd (inb x4 8) <|
      if (mA S 16 (ix x4)) = x1 then
        m_stateOf_j79 k57 S x1 x2 x4
      else
        m_stateOf_j84 k57 S x1 x2 x4 (0 : Int32)
    else
      m_stateOf_j79 k57 S x1 x2 x4
def m_stateOf_l57 : Nat → MS → Int32 → Int32 → Int32 → Int32 → Option (MS × Int32)
  | 0 => fun _ _ _ _ _ => none
  | n + 1 => m_stateOf_b57 (m_stateOf_l57 n)
def m_stateOf_b18 (k18 : MS → Int32 → Int32 → Int32 → Int32 → Option (MS × Int32)) (S : MS) (x1 : Int32) (x2 : Int32) (x3 : Int32) (x4 : Int32) : Option (MS × Int32) :=
  if (mS S 21) ≤ x4 then
    m_stateOf_l57 100 S x1 x2 x3 (0 : Int32)
  else
    if x2 = (0 : Int32) then
      gd (inb x4 24) <|
      if (mA S 20 (ix x4)) = x1 then
        m_stateOf_j42 k18 S x1 x3 x4
      else
        m_stateOf_j47 k18 S x1 x3 x4 (0 : Int32)
    else
      m_stateOf_j42 k18 S x1 x3 x4
def m_stateOf_l18 : Nat → MS → Int32 → Int32 → Int32 → Int32 → Option (MS × Int32)
  | 0 => fun _ _ _ _ _ => none
  | n + 1 => m_stateOf_b18 (m_stateOf_l18 n)
def m_stateOf (S : MS) (a1 : Int32) : Option (MS × Int32) :=
  bd (m_noInner S a1) fun y1 =>
  if y1.2 = (0 : Int32) then
    m_stateOf_l18 100 y1.1 a1 (0 : Int32) (0 : Int32) (0 : Int32)
  else
    some (y1.1, (32 : Int32))

set_option maxHeartbeats 40000000 in
theorem M_stateOf (G : zG) (p : Nat) (g : MG) (q n : Nat) (S : MS) (a1 : Int32) (V : Int32) (S9 : MS) (hm : m_stateOf S a1 = some (S9, V)) : zMi G yX3_stateOf cX3_stateOf 5 (some .char) 2 0 0 p g q n [.int a1] S V S9 := by
  intro h0 h hI0
  refine zCo.st [some (zrf p), some (.int a1), none, none, none] rfl rfl (by simp only [zarg_r, zarg_i, zarg_l, zarg_0]; rfl) (fun X o f0 hin hw0 => ?_)
  have f := f0.e
  refine (?_ : zQ (IM h0 p g q n S) G X 0 0 0 [some (zrf p), some (.int a1), none, none, none] []) h hI0 hw0
  clear hI0 hw0
  generalize hR9 : ((S9, V) : (MS × Int32)) = R at hm
  have hj111 : ∀ (S : MS) (s0 : Int32) (cl sl : Nat), cl + (0) ≤ 0 → sl + (0) ≤ 0 → m_stateOf_j111 S s0 = some R → zQ (IM h0 p g q n S) G X cl sl 111 [none, none, none, none, none] [.int s0] := by
    intro S s0 cl sl hc hs hm
    unfold m_stateOf_j111 at hm
    obtain ⟨g1, hm⟩ := gd_e hm
    refine zm_reti o f dX3_stateOf_111 (chr_e g1) (by omega) (by omega) ((so_e hm).trans hR9.symm)
  have hl57 : ∀ (n57 : Nat), n57 ≤ 100 → ∀ (S : MS) (x1 : Int32) (x2 : Int32) (x3 : Int32) (x4 : Int32) (cl sl : Nat), cl + (0) ≤ 0 → sl + (0) ≤ 0 → m_stateOf_l57 n57 S x1 x2 x3 x4 = some R → zQ (IM h0 p g q n S) G X cl sl 57 [some (zrf p), some (.int x1), some (.int x2), some (.int x3), some (.int x4)] [] := by
    intro n57
    induction n57 with
    | zero => intro _ S x1 x2 x3 x4 cl sl _ _ hm; exact no_e hm
    | succ n57 ih =>
      intro hf57
      have ih57 := ih (by omega)
      have hj84 : ∀ (S : MS) (x1 : Int32) (x2 : Int32) (x4 : Int32) (s0 : Int32) (cl sl : Nat), cl + (0) ≤ 0 → sl + (0) ≤ 0 → m_stateOf_j84 (m_stateOf_l57 n57) S x1 x2 x4 s0 = some R → zQ (IM h0 p g q n S) G X cl sl 84 [some (zrf p), some (.int x1), some (.int x2), none, some (.int x4)] [.int s0] := by
        intro S x1 x2 x4 s0 cl sl hc hs hm
        unfold m_stateOf_j84 at hm
        refine zQ.s (fun h => zs_istore_n (i := 3) o dX3_stateOf_84 rfl (by decide) (Or.inr rfl) (by simp only [List.set_cons_succ, List.set_cons_zero]; rfl)) ?_
        refine zQ.s (fun h => zs_iinc (i := 4) (v := x4 + (1 : Int32)) o dX3_stateOf_85 rfl rfl (by decide) (Or.inr rfl) (by simp only [List.set_cons_succ, List.set_cons_zero]; rfl)) ?_
        refine zQ.s (fun h => zs_goto (tgt := 57) o dX3_stateOf_88 (by decide)) ?_
        exact ih57 _ _ _ _ _ _ _ (by omega) (by omega) hm
      have hj79 : ∀ (S : MS) (x1 : Int32) (x2 : Int32) (x4 : Int32) (cl sl : Nat), cl + (0) ≤ 0 → sl + (0) ≤ 0 → m_stateOf_j79 (m_stateOf_l57 n57) S x1 x2 x4 = some R → zQ (IM h0 p g q n S) G X cl sl 79 [some (zrf p), some (.int x1), some (.int x2), none, some (.int x4)] [] := by
        intro S x1 x2 x4 cl sl hc hs hm
        unfold m_stateOf_j79 at hm
        refine zQ.s (fun h => zs_iconst (v := 1) o dX3_stateOf_79 (by decide)) ?_
        refine zQ.s (fun h => zs_goto (tgt := 84) o dX3_stateOf_80 (by decide)) ?_
        exact hj84 _ _ _ _ _ _ _ (by omega) (by omega) hm
      intro S x1 x2 x3 x4 cl sl hc hs hm
      have hm : m_stateOf_b57 (m_stateOf_l57 n57) S x1 x2 x3 x4 = some R := hm
      unfold m_stateOf_b57 at hm
      refine zQ.s (fun h => zs_iload (i := 4) o dX3_stateOf_57 rfl) ?_
      refine zQ.s (fun h => zs_bipush (v := 8) o dX3_stateOf_59 (by decide)) ?_
      refine zQ.b (fun h => zs_icmp_ge (tgt := 91) o dX3_stateOf_61 (by decide)) (fun c => ?_) (fun c => ?_)
      · have hm := if_e1 hm c
        refine zQ.s (fun h => zs_iload_n (i := 2) o dX3_stateOf_91 rfl rfl) ?_
        refine zQ.b (fun h => zs_if_eq (tgt := 100) o dX3_stateOf_92 (by decide)) (fun c => ?_) (fun c => ?_)
        · have hm := if_e1 hm c
          refine zQ.s (fun h => zs_iload_n (i := 3) o dX3_stateOf_100 rfl rfl) ?_
          refine zQ.b (fun h => zs_if_eq (tgt := 109) o dX3_stateOf_101 (by decide)) (fun c => ?_) (fun c => ?_)
          · have hm := if_e1 hm c
            refine zQ.s (fun h => zs_bipush (v := 119) o dX3_stateOf_109 (by decide)) ?_
            refine zQ.fg (zl_n (zl_n (zl_n (zl_n (zl_n zl_0))))) ?_
            exact hj111 _ _ _ _ (by omega) (by omega) hm
          · have hm := if_e2 hm c
            refine zQ.s (fun h => zs_bipush (v := 109) o dX3_stateOf_104 (by decide)) ?_
            refine zQ.s (fun h => zs_goto (tgt := 111) o dX3_stateOf_106 (by decide)) ?_
            refine zQ.fg (zl_n (zl_n (zl_n (zl_n (zl_n zl_0))))) ?_
            exact hj111 _ _ _ _ (by omega) (by omega) hm
        · have hm := if_e2 hm c
          refine zQ.s (fun h => zs_bipush (v := 102) o dX3_stateOf_95 (by decide)) ?_
          refine zQ.s (fun h => zs_goto (tgt := 111) o dX3_stateOf_97 (by decide)) ?_
          refine zQ.fg (zl_n (zl_n (zl_n (zl_n (zl_n zl_0))))) ?_
          exact hj111 _ _ _ _ (by omega) (by omega) hm
      · have hm := if_e2 hm c
        refine zQ.s (fun h => zs_iload_n (i := 3) o dX3_stateOf_64 rfl rfl) ?_
        refine zQ.b (fun h => zs_if_ne (tgt := 79) o dX3_stateOf_65 (by decide)) (fun c => ?_) (fun c => ?_)
        · have hm := if_e2 hm c
          refine zQ.fg (zl_s (zl_s (zl_s (zl_n (zl_s zl_0))))) ?_
          exact hj79 _ _ _ _ _ _ (by omega) (by omega) hm
        · have hm := if_e1 hm c
          refine zQ.s (fun h => zs_aload_n (i := 0) o dX3_stateOf_68 rfl rfl) ?_
          refine zm_getR o fl_X3_56_3 rfl dX3_stateOf_69 ?_
          refine zQ.s (fun h => zs_iload (i := 4) o dX3_stateOf_72 rfl) ?_
          obtain ⟨g1, hm⟩ := gd_e hm
          refine zm_iald o rfl dX3_stateOf_74 g1 ?_
          refine zQ.s (fun h => zs_iload_n (i := 1) o dX3_stateOf_75 rfl rfl) ?_
          refine zQ.b (fun h => zs_icmp_ne (tgt := 83) o dX3_stateOf_76 (by decide)) (fun c => ?_) (fun c => ?_)
          · have hm := if_e2 hm c
            refine zQ.s (fun h => zs_iconst (v := 0) o dX3_stateOf_83 (by decide)) ?_
            refine zQ.fg (zl_s (zl_s (zl_s (zl_n (zl_s zl_0))))) ?_
            exact hj84 _ _ _ _ _ _ _ (by omega) (by omega) hm
          · have hm := if_e1 hm c
            refine zQ.fg (zl_s (zl_s (zl_s (zl_n (zl_s zl_0))))) ?_
            exact hj79 _ _ _ _ _ _ (by omega) (by omega) hm
  have hl18 : ∀ (n18 : Nat), n18 ≤ 100 → ∀ (S : MS) (x1 : Int32) (x2 : Int32) (x3 : Int32) (x4 : Int32) (cl sl : Nat), cl + (0) ≤ 0 → sl + (0) ≤ 0 → m_stateOf_l18 n18 S x1 x2 x3 x4 = some R → zQ (IM h0 p g q n S) G X cl sl 18 [some (zrf p), some (.int x1), some (.int x2), some (.int x3), some (.int x4)] [] := by
    intro n18
    induction n18 with
    | zero => intro _ S x1 x2 x3 x4 cl sl _ _ hm; exact no_e hm
    | succ n18 ih =>
      intro hf18
      have ih18 := ih (by omega)
      have hj47 : ∀ (S : MS) (x1 : Int32) (x3 : Int32) (x4 : Int32) (s0 : Int32) (cl sl : Nat), cl + (0) ≤ 0 → sl + (0) ≤ 0 → m_stateOf_j47 (m_stateOf_l18 n18) S x1 x3 x4 s0 = some R → zQ (IM h0 p g q n S) G X cl sl 47 [some (zrf p), some (.int x1), none, some (.int x3), some (.int x4)] [.int s0] := by
        intro S x1 x3 x4 s0 cl sl hc hs hm
        unfold m_stateOf_j47 at hm
        refine zQ.s (fun h => zs_istore_n (i := 2) o dX3_stateOf_47 rfl (by decide) (Or.inr rfl) (by simp only [List.set_cons_succ, List.set_cons_zero]; rfl)) ?_
        refine zQ.s (fun h => zs_iinc (i := 4) (v := x4 + (1 : Int32)) o dX3_stateOf_48 rfl rfl (by decide) (Or.inr rfl) (by simp only [List.set_cons_succ, List.set_cons_zero]; rfl)) ?_
        refine zQ.s (fun h => zs_goto (tgt := 18) o dX3_stateOf_51 (by decide)) ?_
        exact ih18 _ _ _ _ _ _ _ (by omega) (by omega) hm
      have hj42 : ∀ (S : MS) (x1 : Int32) (x3 : Int32) (x4 : Int32) (cl sl : Nat), cl + (0) ≤ 0 → sl + (0) ≤ 0 → m_stateOf_j42 (m_stateOf_l18 n18) S x1 x3 x4 = some R → zQ (IM h0 p g q n S) G X cl sl 42 [some (zrf p), some (.int x1), none, some (.int x3), some (.int x4)] [] := by
        intro S x1 x3 x4 cl sl hc hs hm
        unfold m_stateOf_j42 at hm
        refine zQ.s (fun h => zs_iconst (v := 1) o dX3_stateOf_42 (by decide)) ?_
        refine zQ.s (fun h => zs_goto (tgt := 47) o dX3_stateOf_43 (by decide)) ?_
        exact hj47 _ _ _ _ _ _ _ (by omega) (by omega) hm
      intro S x1 x2 x3 x4 cl sl hc hs hm
      have hm : m_stateOf_b18 (m_stateOf_l18 n18) S x1 x2 x3 x4 = some R := hm
      unfold m_stateOf_b18 at hm
      refine zQ.s (fun h => zs_iload (i := 4) o dX3_stateOf_18 rfl) ?_
      refine zQ.s (fun h => zs_aload_n (i := 0) o dX3_stateOf_20 rfl rfl) ?_
      refine zm_getI o fl_X3_126_3 rfl dX3_stateOf_21 ?_
      refine zQ.b (fun h => zs_icmp_ge (tgt := 54) o dX3_stateOf_24 (by decide)) (fun c => ?_) (fun c => ?_)
      · have hm := if_e1 hm c
        refine zQ.s (fun h => zs_iconst (v := 0) o dX3_stateOf_54 (by decide)) ?_
        refine zQ.s (fun h => zs_istore (i := 4) o dX3_stateOf_55 (by decide) (Or.inr rfl) (by simp only [List.set_cons_succ, List.set_cons_zero]; rfl)) ?_
        exact hl57 100 (Nat.le_refl _) _ _ _ _ _ _ _ (by omega) (by omega) hm
      · have hm := if_e2 hm c
        refine zQ.s (fun h => zs_iload_n (i := 2) o dX3_stateOf_27 rfl rfl) ?_
        refine zQ.b (fun h => zs_if_ne (tgt := 42) o dX3_stateOf_28 (by decide)) (fun c => ?_) (fun c => ?_)
        · have hm := if_e2 hm c
          refine zQ.fg (zl_s (zl_s (zl_n (zl_s (zl_s zl_0))))) ?_
          exact hj42 _ _ _ _ _ _ (by omega) (by omega) hm
        · have hm := if_e1 hm c
          refine zQ.s (fun h => zs_aload_n (i := 0) o dX3_stateOf_31 rfl rfl) ?_
          refine zm_getR o fl_X3_69_3 rfl dX3_stateOf_32 ?_
          refine zQ.s (fun h => zs_iload (i := 4) o dX3_stateOf_35 rfl) ?_
          obtain ⟨g1, hm⟩ := gd_e hm
          refine zm_iald o rfl dX3_stateOf_37 g1 ?_
          refine zQ.s (fun h => zs_iload_n (i := 1) o dX3_stateOf_38 rfl rfl) ?_
          refine zQ.b (fun h => zs_icmp_ne (tgt := 46) o dX3_stateOf_39 (by decide)) (fun c => ?_) (fun c => ?_)
          · have hm := if_e2 hm c
            refine zQ.s (fun h => zs_iconst (v := 0) o dX3_stateOf_46 (by decide)) ?_
            refine zQ.fg (zl_s (zl_s (zl_n (zl_s (zl_s zl_0))))) ?_
            exact hj47 _ _ _ _ _ _ _ (by omega) (by omega) hm
          · have hm := if_e1 hm c
            refine zQ.fg (zl_s (zl_s (zl_n (zl_s (zl_s zl_0))))) ?_
            exact hj42 _ _ _ _ _ _ (by omega) (by omega) hm
  unfold m_stateOf at hm
  refine zQ.s (fun h => zs_aload_n (i := 0) o dX3_stateOf_0 rfl rfl) ?_
  refine zQ.s (fun h => zs_iload_n (i := 1) o dX3_stateOf_1 rfl rfl) ?_
  obtain ⟨y1, c_y1, hm⟩ := bd_e hm
  refine zm_Vi o ml_X3_362 (M_noInner G p g _ _ _ _ _ _ c_y1) dX3_stateOf_2 rfl rfl rfl rfl (by omega) (by omega) ?_
  refine zQ.b (fun h => zs_if_eq (tgt := 11) o dX3_stateOf_5 (by decide)) (fun c => ?_) (fun c => ?_)
  · have hm := if_e1 hm c
    refine zQ.s (fun h => zs_iconst (v := 0) o dX3_stateOf_11 (by decide)) ?_
    refine zQ.s (fun h => zs_istore_n (i := 2) o dX3_stateOf_12 rfl (by decide) (Or.inr rfl) (by simp only [List.set_cons_succ, List.set_cons_zero]; rfl)) ?_
    refine zQ.s (fun h => zs_iconst (v := 0) o dX3_stateOf_13 (by decide)) ?_
    refine zQ.s (fun h => zs_istore_n (i := 3) o dX3_stateOf_14 rfl (by decide) (Or.inr rfl) (by simp only [List.set_cons_succ, List.set_cons_zero]; rfl)) ?_
    refine zQ.s (fun h => zs_iconst (v := 0) o dX3_stateOf_15 (by decide)) ?_
    refine zQ.s (fun h => zs_istore (i := 4) o dX3_stateOf_16 (by decide) (Or.inr rfl) (by simp only [List.set_cons_succ, List.set_cons_zero]; rfl)) ?_
    exact hl18 100 (Nat.le_refl _) _ _ _ _ _ _ _ (by omega) (by omega) hm
  · have hm := if_e2 hm c
    refine zQ.s (fun h => zs_bipush (v := 32) o dX3_stateOf_8 (by decide)) ?_
    refine zm_reti o f dX3_stateOf_10 rfl (by omega) (by omega) ((so_e hm).trans hR9.symm)

def m_isReady_j22 (S : MS) (s0 : Int32) : Option (MS × Int32) :=
  gd (b01 s0) <|
  some (S, s0)
def m_isReady_j21 (S : MS) : Option (MS × Int32) :=
  m_isReady_j22 S (0 : Int32)
def m_isReady (S : MS) (a1 : Int32) : Option (MS × Int32) :=
  bd (m_noInner S a1) fun y1 =>
  if y1.2 = (0 : Int32) then
    gd (inb a1 24) <|
    if (mA y1.1 19 (ix a1)) = (0 : Int32) then
      m_isReady_j21 y1.1
    else
      m_isReady_j22 y1.1 (1 : Int32)
  else
    m_isReady_j21 y1.1

set_option maxHeartbeats 40000000 in
theorem M_isReady (G : zG) (p : Nat) (g : MG) (q n : Nat) (S : MS) (a1 : Int32) (V : Int32) (S9 : MS) (hm : m_isReady S a1 = some (S9, V)) : zMi G yX3_isReady cX3_isReady 2 (some .boolean) 2 0 0 p g q n [.int a1] S V S9 := by
  intro h0 h hI0
  refine zCo.st [some (zrf p), some (.int a1)] rfl rfl (by simp only [zarg_r, zarg_i, zarg_l, zarg_0]; rfl) (fun X o f0 hin hw0 => ?_)
  have f := f0.e
  refine (?_ : zQ (IM h0 p g q n S) G X 0 0 0 [some (zrf p), some (.int a1)] []) h hI0 hw0
  clear hI0 hw0
  generalize hR9 : ((S9, V) : (MS × Int32)) = R at hm
  have hj22 : ∀ (S : MS) (s0 : Int32) (cl sl : Nat), cl + (0) ≤ 0 → sl + (0) ≤ 0 → m_isReady_j22 S s0 = some R → zQ (IM h0 p g q n S) G X cl sl 22 [none, none] [.int s0] := by
    intro S s0 cl sl hc hs hm
    unfold m_isReady_j22 at hm
    obtain ⟨g1, hm⟩ := gd_e hm
    refine zm_reti o f dX3_isReady_22 (b01_e g1).1 (by omega) (by omega) ((so_e hm).trans hR9.symm)
  have hj21 : ∀ (S : MS) (cl sl : Nat), cl + (0) ≤ 0 → sl + (0) ≤ 0 → m_isReady_j21 S = some R → zQ (IM h0 p g q n S) G X cl sl 21 [none, none] [] := by
    intro S cl sl hc hs hm
    unfold m_isReady_j21 at hm
    refine zQ.s (fun h => zs_iconst (v := 0) o dX3_isReady_21 (by decide)) ?_
    exact hj22 _ _ _ _ (by omega) (by omega) hm
  unfold m_isReady at hm
  refine zQ.s (fun h => zs_aload_n (i := 0) o dX3_isReady_0 rfl rfl) ?_
  refine zQ.s (fun h => zs_iload_n (i := 1) o dX3_isReady_1 rfl rfl) ?_
  obtain ⟨y1, c_y1, hm⟩ := bd_e hm
  refine zm_Vi o ml_X3_362 (M_noInner G p g _ _ _ _ _ _ c_y1) dX3_isReady_2 rfl rfl rfl rfl (by omega) (by omega) ?_
  refine zQ.b (fun h => zs_if_ne (tgt := 21) o dX3_isReady_5 (by decide)) (fun c => ?_) (fun c => ?_)
  · have hm := if_e2 hm c
    refine zQ.fg (zl_n (zl_n zl_0)) ?_
    exact hj21 _ _ _ (by omega) (by omega) hm
  · have hm := if_e1 hm c
    refine zQ.s (fun h => zs_aload_n (i := 0) o dX3_isReady_8 rfl rfl) ?_
    refine zm_getR o fl_X3_65_3 rfl dX3_isReady_9 ?_
    refine zQ.s (fun h => zs_iload_n (i := 1) o dX3_isReady_12 rfl rfl) ?_
    obtain ⟨g2, hm⟩ := gd_e hm
    refine zm_bald o rfl dX3_isReady_13 g2 ?_
    refine zQ.b (fun h => zs_if_eq (tgt := 21) o dX3_isReady_14 (by decide)) (fun c => ?_) (fun c => ?_)
    · have hm := if_e1 hm c
      refine zQ.fg (zl_n (zl_n zl_0)) ?_
      exact hj21 _ _ _ (by omega) (by omega) hm
    · have hm := if_e2 hm c
      refine zQ.s (fun h => zs_iconst (v := 1) o dX3_isReady_17 (by decide)) ?_
      refine zQ.s (fun h => zs_goto (tgt := 22) o dX3_isReady_18 (by decide)) ?_
      refine zQ.fg (zl_n (zl_n zl_0)) ?_
      exact hj22 _ _ _ _ (by omega) (by omega) hm

def m_free (S : MS) : Option (MS × Int32) :=
  lt (tS S 54 (0 : Int32)) fun S1 =>
  some (S1, mS S1 21)

set_option maxHeartbeats 40000000 in
theorem M_free (G : zG) (p : Nat) (g : MG) (q n : Nat) (S : MS) (V : Int32) (S9 : MS) (hm : m_free S = some (S9, V)) : zMi G yX3_free cX3_free 1 (some .int) 0 0 0 p g q n [] S V S9 := by
  intro h0 h hI0
  refine zCo.st [some (zrf p)] rfl rfl (by simp only [zarg_r, zarg_i, zarg_l, zarg_0]; rfl) (fun X o f0 hin hw0 => ?_)
  have f := f0.e
  refine (?_ : zQ (IM h0 p g q n S) G X 0 0 0 [some (zrf p)] []) h hI0 hw0
  clear hI0 hw0
  generalize hR9 : ((S9, V) : (MS × Int32)) = R at hm
  unfold m_free at hm
  refine zQ.s (fun h => zs_aload_n (i := 0) o dX3_free_0 rfl rfl) ?_
  refine zQ.s (fun h => zs_iconst (v := 0) o dX3_free_1 (by decide)) ?_
  obtain ⟨S1, e_S1, hm⟩ := lt_e hm
  refine zm_putI o fl_X3_123_3 rfl rfl ⟨rfl, rfl⟩ dX3_free_2 e_S1 ?_
  refine zQ.s (fun h => zs_aload_n (i := 0) o dX3_free_5 rfl rfl) ?_
  refine zm_getI o fl_X3_126_3 rfl dX3_free_6 ?_
  refine zm_reti o f dX3_free_9 rfl (by omega) (by omega) ((so_e hm).trans hR9.symm)

def m_freeAt_j40 (S : MS) (s0 : Int32) : Option (MS × Int32) :=
  some (S, s0)
def m_freeAt_j20 (S : MS) (x1 : Int32) (s1 : Int32) : Option (MS × Int32) :=
  lt (tS S 54 s1) fun S1 =>
  if (mS S1 54) ≤ (0 : Int32) then
    gd (inb x1 24) <|
    m_freeAt_j40 S1 (mA S1 20 (ix x1))
  else
    m_freeAt_j40 S1 (0 : Int32)
def m_freeAt (S : MS) (a1 : Int32) : Option (MS × Int32) :=
  bd (m_in a1 (0 : Int32) ((mS S 21) - (1 : Int32))) fun y1 =>
  if y1 = (0 : Int32) then
    m_freeAt_j20 S a1 (1 : Int32)
  else
    m_freeAt_j20 S a1 (0 : Int32)

set_option maxHeartbeats 40000000 in
theorem M_freeAt (G : zG) (p : Nat) (g : MG) (q n : Nat) (S : MS) (a1 : Int32) (V : Int32) (S9 : MS) (hm : m_freeAt S a1 = some (S9, V)) : zMi G yX3_freeAt cX3_freeAt 2 (some .int) 1 0 0 p g q n [.int a1] S V S9 := by
  intro h0 h hI0
  refine zCo.st [some (zrf p), some (.int a1)] rfl rfl (by simp only [zarg_r, zarg_i, zarg_l, zarg_0]; rfl) (fun X o f0 hin hw0 => ?_)
  have f := f0.e
  refine (?_ : zQ (IM h0 p g q n S) G X 0 0 0 [some (zrf p), some (.int a1)] []) h hI0 hw0
  clear hI0 hw0
  generalize hR9 : ((S9, V) : (MS × Int32)) = R at hm
  have hj40 : ∀ (S : MS) (s0 : Int32) (cl sl : Nat), cl + (0) ≤ 0 → sl + (0) ≤ 0 → m_freeAt_j40 S s0 = some R → zQ (IM h0 p g q n S) G X cl sl 40 [none, none] [.int s0] := by
    intro S s0 cl sl hc hs hm
    unfold m_freeAt_j40 at hm
    refine zm_reti o f dX3_freeAt_40 rfl (by omega) (by omega) ((so_e hm).trans hR9.symm)
  have hj20 : ∀ (S : MS) (x1 : Int32) (s1 : Int32) (cl sl : Nat), cl + (0) ≤ 0 → sl + (0) ≤ 0 → m_freeAt_j20 S x1 s1 = some R → zQ (IM h0 p g q n S) G X cl sl 20 [some (zrf p), some (.int x1)] [.int s1, zrf p] := by
    intro S x1 s1 cl sl hc hs hm
    unfold m_freeAt_j20 at hm
    obtain ⟨S1, e_S1, hm⟩ := lt_e hm
    refine zm_putI o fl_X3_123_3 rfl rfl ⟨rfl, rfl⟩ dX3_freeAt_20 e_S1 ?_
    refine zQ.s (fun h => zs_aload_n (i := 0) o dX3_freeAt_23 rfl rfl) ?_
    refine zm_getI o fl_X3_123_3 rfl dX3_freeAt_24 ?_
    refine zQ.b (fun h => zs_if_le (tgt := 34) o dX3_freeAt_27 (by decide)) (fun c => ?_) (fun c => ?_)
    · have hm := if_e1 hm c
      refine zQ.s (fun h => zs_aload_n (i := 0) o dX3_freeAt_34 rfl rfl) ?_
      refine zm_getR o fl_X3_69_3 rfl dX3_freeAt_35 ?_
      refine zQ.s (fun h => zs_iload_n (i := 1) o dX3_freeAt_38 rfl rfl) ?_
      obtain ⟨g2, hm⟩ := gd_e hm
      refine zm_iald o rfl dX3_freeAt_39 g2 ?_
      refine zQ.fg (zl_n (zl_n zl_0)) ?_
      exact hj40 _ _ _ _ (by omega) (by omega) hm
    · have hm := if_e2 hm c
      refine zQ.s (fun h => zs_iconst (v := 0) o dX3_freeAt_30 (by decide)) ?_
      refine zQ.s (fun h => zs_goto (tgt := 40) o dX3_freeAt_31 (by decide)) ?_
      refine zQ.fg (zl_n (zl_n zl_0)) ?_
      exact hj40 _ _ _ _ (by omega) (by omega) hm
  unfold m_freeAt at hm
  refine zQ.s (fun h => zs_aload_n (i := 0) o dX3_freeAt_0 rfl rfl) ?_
  refine zQ.s (fun h => zs_iload_n (i := 1) o dX3_freeAt_1 rfl rfl) ?_
  refine zQ.s (fun h => zs_iconst (v := 0) o dX3_freeAt_2 (by decide)) ?_
  refine zQ.s (fun h => zs_aload_n (i := 0) o dX3_freeAt_3 rfl rfl) ?_
  refine zm_getI o fl_X3_126_3 rfl dX3_freeAt_4 ?_
  refine zQ.s (fun h => zs_iconst (v := 1) o dX3_freeAt_7 (by decide)) ?_
  refine zQ.s (fun h => zs_isub o dX3_freeAt_8) ?_
  obtain ⟨y1, c_y1, hm⟩ := bd_e hm
  refine zQ_Si o ml_X3_129 (M_in G _ _ _ _ c_y1) dX3_freeAt_9 rfl rfl rfl rfl (by omega) (by omega) ?_
  refine zQ.b (fun h => zs_if_eq (tgt := 19) o dX3_freeAt_12 (by decide)) (fun c => ?_) (fun c => ?_)
  · have hm := if_e1 hm c
    refine zQ.s (fun h => zs_iconst (v := 1) o dX3_freeAt_19 (by decide)) ?_
    exact hj20 _ _ _ _ _ (by omega) (by omega) hm
  · have hm := if_e2 hm c
    refine zQ.s (fun h => zs_iconst (v := 0) o dX3_freeAt_15 (by decide)) ?_
    refine zQ.s (fun h => zs_goto (tgt := 20) o dX3_freeAt_16 (by decide)) ?_
    exact hj20 _ _ _ _ _ (by omega) (by omega) hm

def m_inBuffer (S : MS) : Option (MS × Int32) :=
  lt (tS S 54 (0 : Int32)) fun S1 =>
  some (S1, mS S1 23)

set_option maxHeartbeats 40000000 in
theorem M_inBuffer (G : zG) (p : Nat) (g : MG) (q n : Nat) (S : MS) (V : Int32) (S9 : MS) (hm : m_inBuffer S = some (S9, V)) : zMi G yX3_inBuffer cX3_inBuffer 1 (some .int) 0 0 0 p g q n [] S V S9 := by
  intro h0 h hI0
  refine zCo.st [some (zrf p)] rfl rfl (by simp only [zarg_r, zarg_i, zarg_l, zarg_0]; rfl) (fun X o f0 hin hw0 => ?_)
  have f := f0.e
  refine (?_ : zQ (IM h0 p g q n S) G X 0 0 0 [some (zrf p)] []) h hI0 hw0
  clear hI0 hw0
  generalize hR9 : ((S9, V) : (MS × Int32)) = R at hm
  unfold m_inBuffer at hm
  refine zQ.s (fun h => zs_aload_n (i := 0) o dX3_inBuffer_0 rfl rfl) ?_
  refine zQ.s (fun h => zs_iconst (v := 0) o dX3_inBuffer_1 (by decide)) ?_
  obtain ⟨S1, e_S1, hm⟩ := lt_e hm
  refine zm_putI o fl_X3_123_3 rfl rfl ⟨rfl, rfl⟩ dX3_inBuffer_2 e_S1 ?_
  refine zQ.s (fun h => zs_aload_n (i := 0) o dX3_inBuffer_5 rfl rfl) ?_
  refine zm_getI o fl_X3_198_3 rfl dX3_inBuffer_6 ?_
  refine zm_reti o f dX3_inBuffer_9 rfl (by omega) (by omega) ((so_e hm).trans hR9.symm)

def m_bufferAt_j42 (S : MS) (s0 : Int32) : Option (MS × Int32) :=
  some (S, s0)
def m_bufferAt_j20 (S : MS) (x1 : Int32) (s1 : Int32) : Option (MS × Int32) :=
  lt (tS S 54 s1) fun S1 =>
  if (mS S1 54) ≤ (0 : Int32) then
    gd (inb x1 16) <|
    lt (mM S1 (ix x1)) fun r3 =>
    gd (inb (0 : Int32) 28) <|
    m_bufferAt_j42 S1 (mB S1 r3 (ix (0 : Int32)))
  else
    m_bufferAt_j42 S1 (0 : Int32)
def m_bufferAt (S : MS) (a1 : Int32) : Option (MS × Int32) :=
  bd (m_in a1 (0 : Int32) ((mS S 23) - (1 : Int32))) fun y1 =>
  if y1 = (0 : Int32) then
    m_bufferAt_j20 S a1 (1 : Int32)
  else
    m_bufferAt_j20 S a1 (0 : Int32)

set_option maxHeartbeats 40000000 in
theorem M_bufferAt (G : zG) (p : Nat) (g : MG) (q n : Nat) (S : MS) (a1 : Int32) (V : Int32) (S9 : MS) (hm : m_bufferAt S a1 = some (S9, V)) : zMi G yX3_bufferAt cX3_bufferAt 2 (some .int) 1 0 0 p g q n [.int a1] S V S9 := by
  intro h0 h hI0
  refine zCo.st [some (zrf p), some (.int a1)] rfl rfl (by simp only [zarg_r, zarg_i, zarg_l, zarg_0]; rfl) (fun X o f0 hin hw0 => ?_)
  have f := f0.e
  refine (?_ : zQ (IM h0 p g q n S) G X 0 0 0 [some (zrf p), some (.int a1)] []) h hI0 hw0
  clear hI0 hw0
  generalize hR9 : ((S9, V) : (MS × Int32)) = R at hm
  have hj42 : ∀ (S : MS) (s0 : Int32) (cl sl : Nat), cl + (0) ≤ 0 → sl + (0) ≤ 0 → m_bufferAt_j42 S s0 = some R → zQ (IM h0 p g q n S) G X cl sl 42 [none, none] [.int s0] := by
    intro S s0 cl sl hc hs hm
    unfold m_bufferAt_j42 at hm
    refine zm_reti o f dX3_bufferAt_42 rfl (by omega) (by omega) ((so_e hm).trans hR9.symm)
  have hj20 : ∀ (S : MS) (x1 : Int32) (s1 : Int32) (cl sl : Nat), cl + (0) ≤ 0 → sl + (0) ≤ 0 → m_bufferAt_j20 S x1 s1 = some R → zQ (IM h0 p g q n S) G X cl sl 20 [some (zrf p), some (.int x1)] [.int s1, zrf p] := by
    intro S x1 s1 cl sl hc hs hm
    unfold m_bufferAt_j20 at hm
    obtain ⟨S1, e_S1, hm⟩ := lt_e hm
    refine zm_putI o fl_X3_123_3 rfl rfl ⟨rfl, rfl⟩ dX3_bufferAt_20 e_S1 ?_
    refine zQ.s (fun h => zs_aload_n (i := 0) o dX3_bufferAt_23 rfl rfl) ?_
    refine zm_getI o fl_X3_123_3 rfl dX3_bufferAt_24 ?_
    refine zQ.b (fun h => zs_if_le (tgt := 34) o dX3_bufferAt_27 (by decide)) (fun c => ?_) (fun c => ?_)
    · have hm := if_e1 hm c
      refine zQ.s (fun h => zs_aload_n (i := 0) o dX3_bufferAt_34 rfl rfl) ?_
      refine zm_getR o fl_X3_74_3 rfl dX3_bufferAt_35 ?_
      refine zQ.s (fun h => zs_iload_n (i := 1) o dX3_bufferAt_38 rfl rfl) ?_
      obtain ⟨g2, hm⟩ := gd_e hm
      obtain ⟨r3, e_r3, hm⟩ := lt_e hm
      refine zm_row o dX3_bufferAt_39 g2 e_r3 (fun h_r3 => ?_)
      refine zQ.s (fun h => zs_iconst (v := 0) o dX3_bufferAt_40 (by decide)) ?_
      obtain ⟨g4, hm⟩ := gd_e hm
      refine zm_rald o h_r3 dX3_bufferAt_41 g4 ?_
      refine zQ.fg (zl_n (zl_n zl_0)) ?_
      exact hj42 _ _ _ _ (by omega) (by omega) hm
    · have hm := if_e2 hm c
      refine zQ.s (fun h => zs_iconst (v := 0) o dX3_bufferAt_30 (by decide)) ?_
      refine zQ.s (fun h => zs_goto (tgt := 42) o dX3_bufferAt_31 (by decide)) ?_
      refine zQ.fg (zl_n (zl_n zl_0)) ?_
      exact hj42 _ _ _ _ (by omega) (by omega) hm
  unfold m_bufferAt at hm
  refine zQ.s (fun h => zs_aload_n (i := 0) o dX3_bufferAt_0 rfl rfl) ?_
  refine zQ.s (fun h => zs_iload_n (i := 1) o dX3_bufferAt_1 rfl rfl) ?_
  refine zQ.s (fun h => zs_iconst (v := 0) o dX3_bufferAt_2 (by decide)) ?_
  refine zQ.s (fun h => zs_aload_n (i := 0) o dX3_bufferAt_3 rfl rfl) ?_
  refine zm_getI o fl_X3_198_3 rfl dX3_bufferAt_4 ?_
  refine zQ.s (fun h => zs_iconst (v := 1) o dX3_bufferAt_7 (by decide)) ?_
  refine zQ.s (fun h => zs_isub o dX3_bufferAt_8) ?_
  obtain ⟨y1, c_y1, hm⟩ := bd_e hm
  refine zQ_Si o ml_X3_129 (M_in G _ _ _ _ c_y1) dX3_bufferAt_9 rfl rfl rfl rfl (by omega) (by omega) ?_
  refine zQ.b (fun h => zs_if_eq (tgt := 19) o dX3_bufferAt_12 (by decide)) (fun c => ?_) (fun c => ?_)
  · have hm := if_e1 hm c
    refine zQ.s (fun h => zs_iconst (v := 1) o dX3_bufferAt_19 (by decide)) ?_
    exact hj20 _ _ _ _ _ (by omega) (by omega) hm
  · have hm := if_e2 hm c
    refine zQ.s (fun h => zs_iconst (v := 0) o dX3_bufferAt_15 (by decide)) ?_
    refine zQ.s (fun h => zs_goto (tgt := 20) o dX3_bufferAt_16 (by decide)) ?_
    exact hj20 _ _ _ _ _ (by omega) (by omega) hm

def m_stageAt_j45 (S : MS) (s0 : Int32) : Option (MS × Int32) :=
  gd (chr s0) <|
  some (S, s0)
def m_stageAt_j20 (S : MS) (x1 : Int32) (s1 : Int32) : Option (MS × Int32) :=
  lt (tS S 54 s1) fun S1 =>
  if (mS S1 54) ≤ (0 : Int32) then
    gd (inb x1 16) <|
    lt (mM S1 (ix x1)) fun r3 =>
    gd (inb (11 : Int32) 28) <|
    m_stageAt_j45 S1 (((mB S1 r3 (ix (11 : Int32))).toUInt32 % 65536).toInt32)
  else
    m_stageAt_j45 S1 (32 : Int32)
def m_stageAt (S : MS) (a1 : Int32) : Option (MS × Int32) :=
  bd (m_in a1 (0 : Int32) ((mS S 23) - (1 : Int32))) fun y1 =>
  if y1 = (0 : Int32) then
    m_stageAt_j20 S a1 (1 : Int32)
  else
    m_stageAt_j20 S a1 (0 : Int32)

set_option maxHeartbeats 40000000 in
theorem M_stageAt (G : zG) (p : Nat) (g : MG) (q n : Nat) (S : MS) (a1 : Int32) (V : Int32) (S9 : MS) (hm : m_stageAt S a1 = some (S9, V)) : zMi G yX3_stageAt cX3_stageAt 2 (some .char) 1 0 0 p g q n [.int a1] S V S9 := by
  intro h0 h hI0
  refine zCo.st [some (zrf p), some (.int a1)] rfl rfl (by simp only [zarg_r, zarg_i, zarg_l, zarg_0]; rfl) (fun X o f0 hin hw0 => ?_)
  have f := f0.e
  refine (?_ : zQ (IM h0 p g q n S) G X 0 0 0 [some (zrf p), some (.int a1)] []) h hI0 hw0
  clear hI0 hw0
  generalize hR9 : ((S9, V) : (MS × Int32)) = R at hm
  have hj45 : ∀ (S : MS) (s0 : Int32) (cl sl : Nat), cl + (0) ≤ 0 → sl + (0) ≤ 0 → m_stageAt_j45 S s0 = some R → zQ (IM h0 p g q n S) G X cl sl 45 [none, none] [.int s0] := by
    intro S s0 cl sl hc hs hm
    unfold m_stageAt_j45 at hm
    obtain ⟨g1, hm⟩ := gd_e hm
    refine zm_reti o f dX3_stageAt_45 (chr_e g1) (by omega) (by omega) ((so_e hm).trans hR9.symm)
  have hj20 : ∀ (S : MS) (x1 : Int32) (s1 : Int32) (cl sl : Nat), cl + (0) ≤ 0 → sl + (0) ≤ 0 → m_stageAt_j20 S x1 s1 = some R → zQ (IM h0 p g q n S) G X cl sl 20 [some (zrf p), some (.int x1)] [.int s1, zrf p] := by
    intro S x1 s1 cl sl hc hs hm
    unfold m_stageAt_j20 at hm
    obtain ⟨S1, e_S1, hm⟩ := lt_e hm
    refine zm_putI o fl_X3_123_3 rfl rfl ⟨rfl, rfl⟩ dX3_stageAt_20 e_S1 ?_
    refine zQ.s (fun h => zs_aload_n (i := 0) o dX3_stageAt_23 rfl rfl) ?_
    refine zm_getI o fl_X3_123_3 rfl dX3_stageAt_24 ?_
    refine zQ.b (fun h => zs_if_le (tgt := 35) o dX3_stageAt_27 (by decide)) (fun c => ?_) (fun c => ?_)
    · have hm := if_e1 hm c
      refine zQ.s (fun h => zs_aload_n (i := 0) o dX3_stageAt_35 rfl rfl) ?_
      refine zm_getR o fl_X3_74_3 rfl dX3_stageAt_36 ?_
      refine zQ.s (fun h => zs_iload_n (i := 1) o dX3_stageAt_39 rfl rfl) ?_
      obtain ⟨g2, hm⟩ := gd_e hm
      obtain ⟨r3, e_r3, hm⟩ := lt_e hm
      refine zm_row o dX3_stageAt_40 g2 e_r3 (fun h_r3 => ?_)
      refine zQ.s (fun h => zs_bipush (v := 11) o dX3_stageAt_41 (by decide)) ?_
      obtain ⟨g4, hm⟩ := gd_e hm
      refine zm_rald o h_r3 dX3_stageAt_43 g4 ?_
      refine zQ.s (fun h => zs_i2c o dX3_stageAt_44 rfl) ?_
      refine zQ.fg (zl_n (zl_n zl_0)) ?_
      exact hj45 _ _ _ _ (by omega) (by omega) hm
    · have hm := if_e2 hm c
      refine zQ.s (fun h => zs_bipush (v := 32) o dX3_stageAt_30 (by decide)) ?_
      refine zQ.s (fun h => zs_goto (tgt := 45) o dX3_stageAt_32 (by decide)) ?_
      refine zQ.fg (zl_n (zl_n zl_0)) ?_
      exact hj45 _ _ _ _ (by omega) (by omega) hm
  unfold m_stageAt at hm
  refine zQ.s (fun h => zs_aload_n (i := 0) o dX3_stageAt_0 rfl rfl) ?_
  refine zQ.s (fun h => zs_iload_n (i := 1) o dX3_stageAt_1 rfl rfl) ?_
  refine zQ.s (fun h => zs_iconst (v := 0) o dX3_stageAt_2 (by decide)) ?_
  refine zQ.s (fun h => zs_aload_n (i := 0) o dX3_stageAt_3 rfl rfl) ?_
  refine zm_getI o fl_X3_198_3 rfl dX3_stageAt_4 ?_
  refine zQ.s (fun h => zs_iconst (v := 1) o dX3_stageAt_7 (by decide)) ?_
  refine zQ.s (fun h => zs_isub o dX3_stageAt_8) ?_
  obtain ⟨y1, c_y1, hm⟩ := bd_e hm
  refine zQ_Si o ml_X3_129 (M_in G _ _ _ _ c_y1) dX3_stageAt_9 rfl rfl rfl rfl (by omega) (by omega) ?_
  refine zQ.b (fun h => zs_if_eq (tgt := 19) o dX3_stageAt_12 (by decide)) (fun c => ?_) (fun c => ?_)
  · have hm := if_e1 hm c
    refine zQ.s (fun h => zs_iconst (v := 1) o dX3_stageAt_19 (by decide)) ?_
    exact hj20 _ _ _ _ _ (by omega) (by omega) hm
  · have hm := if_e2 hm c
    refine zQ.s (fun h => zs_iconst (v := 0) o dX3_stageAt_15 (by decide)) ?_
    refine zQ.s (fun h => zs_goto (tgt := 20) o dX3_stageAt_16 (by decide)) ?_
    exact hj20 _ _ _ _ _ (by omega) (by omega) hm

def m_inQueue (S : MS) : Option (MS × Int32) :=
  lt (tS S 54 (0 : Int32)) fun S1 =>
  bd (m_inQueueNow S1) fun y2 =>
  some (y2.1, y2.2)

set_option maxHeartbeats 40000000 in
theorem M_inQueue (G : zG) (p : Nat) (g : MG) (q n : Nat) (S : MS) (V : Int32) (S9 : MS) (hm : m_inQueue S = some (S9, V)) : zMi G yX3_inQueue cX3_inQueue 1 (some .int) 1 0 0 p g q n [] S V S9 := by
  intro h0 h hI0
  refine zCo.st [some (zrf p)] rfl rfl (by simp only [zarg_r, zarg_i, zarg_l, zarg_0]; rfl) (fun X o f0 hin hw0 => ?_)
  have f := f0.e
  refine (?_ : zQ (IM h0 p g q n S) G X 0 0 0 [some (zrf p)] []) h hI0 hw0
  clear hI0 hw0
  generalize hR9 : ((S9, V) : (MS × Int32)) = R at hm
  unfold m_inQueue at hm
  refine zQ.s (fun h => zs_aload_n (i := 0) o dX3_inQueue_0 rfl rfl) ?_
  refine zQ.s (fun h => zs_iconst (v := 0) o dX3_inQueue_1 (by decide)) ?_
  obtain ⟨S1, e_S1, hm⟩ := lt_e hm
  refine zm_putI o fl_X3_123_3 rfl rfl ⟨rfl, rfl⟩ dX3_inQueue_2 e_S1 ?_
  refine zQ.s (fun h => zs_aload_n (i := 0) o dX3_inQueue_5 rfl rfl) ?_
  obtain ⟨y2, c_y2, hm⟩ := bd_e hm
  refine zm_Vi o ml_X3_215 (M_inQueueNow G p g _ _ _ _ _ c_y2) dX3_inQueue_6 rfl rfl rfl rfl (by omega) (by omega) ?_
  refine zm_reti o f dX3_inQueue_9 rfl (by omega) (by omega) ((so_e hm).trans hR9.symm)

def m_fetched (S : MS) : Option (MS × Int32) :=
  lt (tS S 54 (0 : Int32)) fun S1 =>
  some (S1, mS S1 25)

set_option maxHeartbeats 40000000 in
theorem M_fetched (G : zG) (p : Nat) (g : MG) (q n : Nat) (S : MS) (V : Int32) (S9 : MS) (hm : m_fetched S = some (S9, V)) : zMi G yX3_fetched cX3_fetched 1 (some .int) 0 0 0 p g q n [] S V S9 := by
  intro h0 h hI0
  refine zCo.st [some (zrf p)] rfl rfl (by simp only [zarg_r, zarg_i, zarg_l, zarg_0]; rfl) (fun X o f0 hin hw0 => ?_)
  have f := f0.e
  refine (?_ : zQ (IM h0 p g q n S) G X 0 0 0 [some (zrf p)] []) h hI0 hw0
  clear hI0 hw0
  generalize hR9 : ((S9, V) : (MS × Int32)) = R at hm
  unfold m_fetched at hm
  refine zQ.s (fun h => zs_aload_n (i := 0) o dX3_fetched_0 rfl rfl) ?_
  refine zQ.s (fun h => zs_iconst (v := 0) o dX3_fetched_1 (by decide)) ?_
  obtain ⟨S1, e_S1, hm⟩ := lt_e hm
  refine zm_putI o fl_X3_123_3 rfl rfl ⟨rfl, rfl⟩ dX3_fetched_2 e_S1 ?_
  refine zQ.s (fun h => zs_aload_n (i := 0) o dX3_fetched_5 rfl rfl) ?_
  refine zm_getI o fl_X3_177_3 rfl dX3_fetched_6 ?_
  refine zm_reti o f dX3_fetched_9 rfl (by omega) (by omega) ((so_e hm).trans hR9.symm)

def m_fetching_j31 (S : MS) (s0 : Int32) : Option (MS × Int32) :=
  some (S, s0)
def m_fetching_j13 (S : MS) (s1 : Int32) : Option (MS × Int32) :=
  lt (tS S 54 s1) fun S1 =>
  if (mS S1 54) ≤ (0 : Int32) then
    m_fetching_j31 S1 (mS S1 26)
  else
    m_fetching_j31 S1 (0 : Int32)
def m_fetching (S : MS) : Option (MS × Int32) :=
  if (mS S 27) = (0 : Int32) then
    m_fetching_j13 S (0 : Int32)
  else
    m_fetching_j13 S (1 : Int32)

set_option maxHeartbeats 40000000 in
theorem M_fetching (G : zG) (p : Nat) (g : MG) (q n : Nat) (S : MS) (V : Int32) (S9 : MS) (hm : m_fetching S = some (S9, V)) : zMi G yX3_fetching cX3_fetching 1 (some .int) 0 0 0 p g q n [] S V S9 := by
  intro h0 h hI0
  refine zCo.st [some (zrf p)] rfl rfl (by simp only [zarg_r, zarg_i, zarg_l, zarg_0]; rfl) (fun X o f0 hin hw0 => ?_)
  have f := f0.e
  refine (?_ : zQ (IM h0 p g q n S) G X 0 0 0 [some (zrf p)] []) h hI0 hw0
  clear hI0 hw0
  generalize hR9 : ((S9, V) : (MS × Int32)) = R at hm
  have hj31 : ∀ (S : MS) (s0 : Int32) (cl sl : Nat), cl + (0) ≤ 0 → sl + (0) ≤ 0 → m_fetching_j31 S s0 = some R → zQ (IM h0 p g q n S) G X cl sl 31 [none] [.int s0] := by
    intro S s0 cl sl hc hs hm
    unfold m_fetching_j31 at hm
    refine zm_reti o f dX3_fetching_31 rfl (by omega) (by omega) ((so_e hm).trans hR9.symm)
  have hj13 : ∀ (S : MS) (s1 : Int32) (cl sl : Nat), cl + (0) ≤ 0 → sl + (0) ≤ 0 → m_fetching_j13 S s1 = some R → zQ (IM h0 p g q n S) G X cl sl 13 [some (zrf p)] [.int s1, zrf p] := by
    intro S s1 cl sl hc hs hm
    unfold m_fetching_j13 at hm
    obtain ⟨S1, e_S1, hm⟩ := lt_e hm
    refine zm_putI o fl_X3_123_3 rfl rfl ⟨rfl, rfl⟩ dX3_fetching_13 e_S1 ?_
    refine zQ.s (fun h => zs_aload_n (i := 0) o dX3_fetching_16 rfl rfl) ?_
    refine zm_getI o fl_X3_123_3 rfl dX3_fetching_17 ?_
    refine zQ.b (fun h => zs_if_le (tgt := 27) o dX3_fetching_20 (by decide)) (fun c => ?_) (fun c => ?_)
    · have hm := if_e1 hm c
      refine zQ.s (fun h => zs_aload_n (i := 0) o dX3_fetching_27 rfl rfl) ?_
      refine zm_getI o fl_X3_180_3 rfl dX3_fetching_28 ?_
      refine zQ.fg (zl_n zl_0) ?_
      exact hj31 _ _ _ _ (by omega) (by omega) hm
    · have hm := if_e2 hm c
      refine zQ.s (fun h => zs_iconst (v := 0) o dX3_fetching_23 (by decide)) ?_
      refine zQ.s (fun h => zs_goto (tgt := 31) o dX3_fetching_24 (by decide)) ?_
      refine zQ.fg (zl_n zl_0) ?_
      exact hj31 _ _ _ _ (by omega) (by omega) hm
  unfold m_fetching at hm
  refine zQ.s (fun h => zs_aload_n (i := 0) o dX3_fetching_0 rfl rfl) ?_
  refine zQ.s (fun h => zs_aload_n (i := 0) o dX3_fetching_1 rfl rfl) ?_
  refine zm_getI o fl_X3_174_3 rfl dX3_fetching_2 ?_
  refine zQ.b (fun h => zs_if_eq (tgt := 12) o dX3_fetching_5 (by decide)) (fun c => ?_) (fun c => ?_)
  · have hm := if_e1 hm c
    refine zQ.s (fun h => zs_iconst (v := 0) o dX3_fetching_12 (by decide)) ?_
    exact hj13 _ _ _ _ (by omega) (by omega) hm
  · have hm := if_e2 hm c
    refine zQ.s (fun h => zs_iconst (v := 1) o dX3_fetching_8 (by decide)) ?_
    refine zQ.s (fun h => zs_goto (tgt := 13) o dX3_fetching_9 (by decide)) ?_
    exact hj13 _ _ _ _ (by omega) (by omega) hm

def m_returns (S : MS) : Option (MS × Int32) :=
  lt (tS S 54 (0 : Int32)) fun S1 =>
  gd (inb (0 : Int32) 5) <|
  some (S1, mA S1 28 (ix (0 : Int32)))

set_option maxHeartbeats 40000000 in
theorem M_returns (G : zG) (p : Nat) (g : MG) (q n : Nat) (S : MS) (V : Int32) (S9 : MS) (hm : m_returns S = some (S9, V)) : zMi G yX3_returns cX3_returns 1 (some .int) 0 0 0 p g q n [] S V S9 := by
  intro h0 h hI0
  refine zCo.st [some (zrf p)] rfl rfl (by simp only [zarg_r, zarg_i, zarg_l, zarg_0]; rfl) (fun X o f0 hin hw0 => ?_)
  have f := f0.e
  refine (?_ : zQ (IM h0 p g q n S) G X 0 0 0 [some (zrf p)] []) h hI0 hw0
  clear hI0 hw0
  generalize hR9 : ((S9, V) : (MS × Int32)) = R at hm
  unfold m_returns at hm
  refine zQ.s (fun h => zs_aload_n (i := 0) o dX3_returns_0 rfl rfl) ?_
  refine zQ.s (fun h => zs_iconst (v := 0) o dX3_returns_1 (by decide)) ?_
  obtain ⟨S1, e_S1, hm⟩ := lt_e hm
  refine zm_putI o fl_X3_123_3 rfl rfl ⟨rfl, rfl⟩ dX3_returns_2 e_S1 ?_
  refine zQ.s (fun h => zs_aload_n (i := 0) o dX3_returns_5 rfl rfl) ?_
  refine zm_getR o fl_X3_80_3 rfl dX3_returns_6 ?_
  refine zQ.s (fun h => zs_iconst (v := 0) o dX3_returns_9 (by decide)) ?_
  obtain ⟨g2, hm⟩ := gd_e hm
  refine zm_iald o rfl dX3_returns_10 g2 ?_
  refine zm_reti o f dX3_returns_11 rfl (by omega) (by omega) ((so_e hm).trans hR9.symm)

def m_returnAt_j49 (S : MS) (s0 : Int32) : Option (MS × Int32) :=
  some (S, s0)
def m_returnAt_j22 (S : MS) (x1 : Int32) (s1 : Int32) : Option (MS × Int32) :=
  lt (tS S 54 s1) fun S1 =>
  if (mS S1 54) ≤ (0 : Int32) then
    gd (inb (0 : Int32) 5) <|
    gd (inb ((mA S1 28 (ix (0 : Int32))) - x1) 5) <|
    m_returnAt_j49 S1 (mA S1 28 (ix ((mA S1 28 (ix (0 : Int32))) - x1)))
  else
    m_returnAt_j49 S1 (0 : Int32)
def m_returnAt (S : MS) (a1 : Int32) : Option (MS × Int32) :=
  gd (inb (0 : Int32) 5) <|
  bd (m_in a1 (0 : Int32) ((mA S 28 (ix (0 : Int32))) - (1 : Int32))) fun y2 =>
  if y2 = (0 : Int32) then
    m_returnAt_j22 S a1 (1 : Int32)
  else
    m_returnAt_j22 S a1 (0 : Int32)

set_option maxHeartbeats 40000000 in
theorem M_returnAt (G : zG) (p : Nat) (g : MG) (q n : Nat) (S : MS) (a1 : Int32) (V : Int32) (S9 : MS) (hm : m_returnAt S a1 = some (S9, V)) : zMi G yX3_returnAt cX3_returnAt 2 (some .int) 1 0 0 p g q n [.int a1] S V S9 := by
  intro h0 h hI0
  refine zCo.st [some (zrf p), some (.int a1)] rfl rfl (by simp only [zarg_r, zarg_i, zarg_l, zarg_0]; rfl) (fun X o f0 hin hw0 => ?_)
  have f := f0.e
  refine (?_ : zQ (IM h0 p g q n S) G X 0 0 0 [some (zrf p), some (.int a1)] []) h hI0 hw0
  clear hI0 hw0
  generalize hR9 : ((S9, V) : (MS × Int32)) = R at hm
  have hj49 : ∀ (S : MS) (s0 : Int32) (cl sl : Nat), cl + (0) ≤ 0 → sl + (0) ≤ 0 → m_returnAt_j49 S s0 = some R → zQ (IM h0 p g q n S) G X cl sl 49 [none, none] [.int s0] := by
    intro S s0 cl sl hc hs hm
    unfold m_returnAt_j49 at hm
    refine zm_reti o f dX3_returnAt_49 rfl (by omega) (by omega) ((so_e hm).trans hR9.symm)
  have hj22 : ∀ (S : MS) (x1 : Int32) (s1 : Int32) (cl sl : Nat), cl + (0) ≤ 0 → sl + (0) ≤ 0 → m_returnAt_j22 S x1 s1 = some R → zQ (IM h0 p g q n S) G X cl sl 22 [some (zrf p), some (.int x1)] [.int s1, zrf p] := by
    intro S x1 s1 cl sl hc hs hm
    unfold m_returnAt_j22 at hm
    obtain ⟨S1, e_S1, hm⟩ := lt_e hm
    refine zm_putI o fl_X3_123_3 rfl rfl ⟨rfl, rfl⟩ dX3_returnAt_22 e_S1 ?_
    refine zQ.s (fun h => zs_aload_n (i := 0) o dX3_returnAt_25 rfl rfl) ?_
    refine zm_getI o fl_X3_123_3 rfl dX3_returnAt_26 ?_
    refine zQ.b (fun h => zs_if_le (tgt := 36) o dX3_returnAt_29 (by decide)) (fun c => ?_) (fun c => ?_)
    · have hm := if_e1 hm c
      refine zQ.s (fun h => zs_aload_n (i := 0) o dX3_returnAt_36 rfl rfl) ?_
      refine zm_getR o fl_X3_80_3 rfl dX3_returnAt_37 ?_
      refine zQ.s (fun h => zs_aload_n (i := 0) o dX3_returnAt_40 rfl rfl) ?_
      refine zm_getR o fl_X3_80_3 rfl dX3_returnAt_41 ?_
      refine zQ.s (fun h => zs_iconst (v := 0) o dX3_returnAt_44 (by decide)) ?_
      obtain ⟨g2, hm⟩ := gd_e hm
      refine zm_iald o rfl dX3_returnAt_45 g2 ?_
      refine zQ.s (fun h => zs_iload_n (i := 1) o dX3_returnAt_46 rfl rfl) ?_
      refine zQ.s (fun h => zs_isub o dX3_returnAt_47) ?_
      obtain ⟨g3, hm⟩ := gd_e hm
      refine zm_iald o rfl dX3_returnAt_48 g3 ?_
      refine zQ.fg (zl_n (zl_n zl_0)) ?_
      exact hj49 _ _ _ _ (by omega) (by omega) hm
    · have hm := if_e2 hm c
      refine zQ.s (fun h => zs_iconst (v := 0) o dX3_returnAt_32 (by decide)) ?_
      refine zQ.s (fun h => zs_goto (tgt := 49) o dX3_returnAt_33 (by decide)) ?_
      refine zQ.fg (zl_n (zl_n zl_0)) ?_
      exact hj49 _ _ _ _ (by omega) (by omega) hm
  unfold m_returnAt at hm
  refine zQ.s (fun h => zs_aload_n (i := 0) o dX3_returnAt_0 rfl rfl) ?_
  refine zQ.s (fun h => zs_iload_n (i := 1) o dX3_returnAt_1 rfl rfl) ?_
  refine zQ.s (fun h => zs_iconst (v := 0) o dX3_returnAt_2 (by decide)) ?_
  refine zQ.s (fun h => zs_aload_n (i := 0) o dX3_returnAt_3 rfl rfl) ?_
  refine zm_getR o fl_X3_80_3 rfl dX3_returnAt_4 ?_
  refine zQ.s (fun h => zs_iconst (v := 0) o dX3_returnAt_7 (by decide)) ?_
  obtain ⟨g1, hm⟩ := gd_e hm
  refine zm_iald o rfl dX3_returnAt_8 g1 ?_
  refine zQ.s (fun h => zs_iconst (v := 1) o dX3_returnAt_9 (by decide)) ?_
  refine zQ.s (fun h => zs_isub o dX3_returnAt_10) ?_
  obtain ⟨y2, c_y2, hm⟩ := bd_e hm
  refine zQ_Si o ml_X3_129 (M_in G _ _ _ _ c_y2) dX3_returnAt_11 rfl rfl rfl rfl (by omega) (by omega) ?_
  refine zQ.b (fun h => zs_if_eq (tgt := 21) o dX3_returnAt_14 (by decide)) (fun c => ?_) (fun c => ?_)
  · have hm := if_e1 hm c
    refine zQ.s (fun h => zs_iconst (v := 1) o dX3_returnAt_21 (by decide)) ?_
    exact hj22 _ _ _ _ _ (by omega) (by omega) hm
  · have hm := if_e2 hm c
    refine zQ.s (fun h => zs_iconst (v := 0) o dX3_returnAt_17 (by decide)) ?_
    refine zQ.s (fun h => zs_goto (tgt := 22) o dX3_returnAt_18 (by decide)) ?_
    exact hj22 _ _ _ _ _ (by omega) (by omega) hm

def m_counter_j36 (S : MS) (s0 : Int32) : Option (MS × Int32) :=
  some (S, s0)
def m_counter_j16 (S : MS) (x1 : Int32) (s1 : Int32) : Option (MS × Int32) :=
  lt (tS S 54 s1) fun S1 =>
  if (mS S1 54) ≤ (0 : Int32) then
    gd (inb x1 16) <|
    m_counter_j36 S1 (mA S1 29 (ix x1))
  else
    m_counter_j36 S1 (0 : Int32)
def m_counter (S : MS) (a1 : Int32) : Option (MS × Int32) :=
  bd (m_in a1 (0 : Int32) (15 : Int32)) fun y1 =>
  if y1 = (0 : Int32) then
    m_counter_j16 S a1 (1 : Int32)
  else
    m_counter_j16 S a1 (0 : Int32)

set_option maxHeartbeats 40000000 in
theorem M_counter (G : zG) (p : Nat) (g : MG) (q n : Nat) (S : MS) (a1 : Int32) (V : Int32) (S9 : MS) (hm : m_counter S a1 = some (S9, V)) : zMi G yX3_counter cX3_counter 2 (some .int) 1 0 0 p g q n [.int a1] S V S9 := by
  intro h0 h hI0
  refine zCo.st [some (zrf p), some (.int a1)] rfl rfl (by simp only [zarg_r, zarg_i, zarg_l, zarg_0]; rfl) (fun X o f0 hin hw0 => ?_)
  have f := f0.e
  refine (?_ : zQ (IM h0 p g q n S) G X 0 0 0 [some (zrf p), some (.int a1)] []) h hI0 hw0
  clear hI0 hw0
  generalize hR9 : ((S9, V) : (MS × Int32)) = R at hm
  have hj36 : ∀ (S : MS) (s0 : Int32) (cl sl : Nat), cl + (0) ≤ 0 → sl + (0) ≤ 0 → m_counter_j36 S s0 = some R → zQ (IM h0 p g q n S) G X cl sl 36 [none, none] [.int s0] := by
    intro S s0 cl sl hc hs hm
    unfold m_counter_j36 at hm
    refine zm_reti o f dX3_counter_36 rfl (by omega) (by omega) ((so_e hm).trans hR9.symm)
  have hj16 : ∀ (S : MS) (x1 : Int32) (s1 : Int32) (cl sl : Nat), cl + (0) ≤ 0 → sl + (0) ≤ 0 → m_counter_j16 S x1 s1 = some R → zQ (IM h0 p g q n S) G X cl sl 16 [some (zrf p), some (.int x1)] [.int s1, zrf p] := by
    intro S x1 s1 cl sl hc hs hm
    unfold m_counter_j16 at hm
    obtain ⟨S1, e_S1, hm⟩ := lt_e hm
    refine zm_putI o fl_X3_123_3 rfl rfl ⟨rfl, rfl⟩ dX3_counter_16 e_S1 ?_
    refine zQ.s (fun h => zs_aload_n (i := 0) o dX3_counter_19 rfl rfl) ?_
    refine zm_getI o fl_X3_123_3 rfl dX3_counter_20 ?_
    refine zQ.b (fun h => zs_if_le (tgt := 30) o dX3_counter_23 (by decide)) (fun c => ?_) (fun c => ?_)
    · have hm := if_e1 hm c
      refine zQ.s (fun h => zs_aload_n (i := 0) o dX3_counter_30 rfl rfl) ?_
      refine zm_getR o fl_X3_83_3 rfl dX3_counter_31 ?_
      refine zQ.s (fun h => zs_iload_n (i := 1) o dX3_counter_34 rfl rfl) ?_
      obtain ⟨g2, hm⟩ := gd_e hm
      refine zm_iald o rfl dX3_counter_35 g2 ?_
      refine zQ.fg (zl_n (zl_n zl_0)) ?_
      exact hj36 _ _ _ _ (by omega) (by omega) hm
    · have hm := if_e2 hm c
      refine zQ.s (fun h => zs_iconst (v := 0) o dX3_counter_26 (by decide)) ?_
      refine zQ.s (fun h => zs_goto (tgt := 36) o dX3_counter_27 (by decide)) ?_
      refine zQ.fg (zl_n (zl_n zl_0)) ?_
      exact hj36 _ _ _ _ (by omega) (by omega) hm
  unfold m_counter at hm
  refine zQ.s (fun h => zs_aload_n (i := 0) o dX3_counter_0 rfl rfl) ?_
  refine zQ.s (fun h => zs_iload_n (i := 1) o dX3_counter_1 rfl rfl) ?_
  refine zQ.s (fun h => zs_iconst (v := 0) o dX3_counter_2 (by decide)) ?_
  refine zQ.s (fun h => zs_bipush (v := 15) o dX3_counter_3 (by decide)) ?_
  obtain ⟨y1, c_y1, hm⟩ := bd_e hm
  refine zQ_Si o ml_X3_129 (M_in G _ _ _ _ c_y1) dX3_counter_5 rfl rfl rfl rfl (by omega) (by omega) ?_
  refine zQ.b (fun h => zs_if_eq (tgt := 15) o dX3_counter_8 (by decide)) (fun c => ?_) (fun c => ?_)
  · have hm := if_e1 hm c
    refine zQ.s (fun h => zs_iconst (v := 1) o dX3_counter_15 (by decide)) ?_
    exact hj16 _ _ _ _ _ (by omega) (by omega) hm
  · have hm := if_e2 hm c
    refine zQ.s (fun h => zs_iconst (v := 0) o dX3_counter_11 (by decide)) ?_
    refine zQ.s (fun h => zs_goto (tgt := 16) o dX3_counter_12 (by decide)) ?_
    exact hj16 _ _ _ _ _ (by omega) (by omega) hm

def m_isMarked_j40 (S : MS) (s0 : Int32) : Option (MS × Int32) :=
  gd (b01 s0) <|
  some (S, s0)
def m_isMarked_j39 (S : MS) : Option (MS × Int32) :=
  m_isMarked_j40 S (0 : Int32)
def m_isMarked_j16 (S : MS) (x1 : Int32) (s1 : Int32) : Option (MS × Int32) :=
  lt (tS S 54 s1) fun S1 =>
  if (mS S1 54) = (0 : Int32) then
    gd (inb x1 16) <|
    if (mA S1 31 (ix x1)) = (0 : Int32) then
      m_isMarked_j39 S1
    else
      m_isMarked_j40 S1 (1 : Int32)
  else
    m_isMarked_j39 S1
def m_isMarked (S : MS) (a1 : Int32) : Option (MS × Int32) :=
  bd (m_in a1 (0 : Int32) (15 : Int32)) fun y1 =>
  if y1 = (0 : Int32) then
    m_isMarked_j16 S a1 (1 : Int32)
  else
    m_isMarked_j16 S a1 (0 : Int32)

set_option maxHeartbeats 40000000 in
theorem M_isMarked (G : zG) (p : Nat) (g : MG) (q n : Nat) (S : MS) (a1 : Int32) (V : Int32) (S9 : MS) (hm : m_isMarked S a1 = some (S9, V)) : zMi G yX3_isMarked cX3_isMarked 2 (some .boolean) 1 0 0 p g q n [.int a1] S V S9 := by
  intro h0 h hI0
  refine zCo.st [some (zrf p), some (.int a1)] rfl rfl (by simp only [zarg_r, zarg_i, zarg_l, zarg_0]; rfl) (fun X o f0 hin hw0 => ?_)
  have f := f0.e
  refine (?_ : zQ (IM h0 p g q n S) G X 0 0 0 [some (zrf p), some (.int a1)] []) h hI0 hw0
  clear hI0 hw0
  generalize hR9 : ((S9, V) : (MS × Int32)) = R at hm
  have hj40 : ∀ (S : MS) (s0 : Int32) (cl sl : Nat), cl + (0) ≤ 0 → sl + (0) ≤ 0 → m_isMarked_j40 S s0 = some R → zQ (IM h0 p g q n S) G X cl sl 40 [none, none] [.int s0] := by
    intro S s0 cl sl hc hs hm
    unfold m_isMarked_j40 at hm
    obtain ⟨g1, hm⟩ := gd_e hm
    refine zm_reti o f dX3_isMarked_40 (b01_e g1).1 (by omega) (by omega) ((so_e hm).trans hR9.symm)
  have hj39 : ∀ (S : MS) (cl sl : Nat), cl + (0) ≤ 0 → sl + (0) ≤ 0 → m_isMarked_j39 S = some R → zQ (IM h0 p g q n S) G X cl sl 39 [none, none] [] := by
    intro S cl sl hc hs hm
    unfold m_isMarked_j39 at hm
    refine zQ.s (fun h => zs_iconst (v := 0) o dX3_isMarked_39 (by decide)) ?_
    exact hj40 _ _ _ _ (by omega) (by omega) hm
  have hj16 : ∀ (S : MS) (x1 : Int32) (s1 : Int32) (cl sl : Nat), cl + (0) ≤ 0 → sl + (0) ≤ 0 → m_isMarked_j16 S x1 s1 = some R → zQ (IM h0 p g q n S) G X cl sl 16 [some (zrf p), some (.int x1)] [.int s1, zrf p] := by
    intro S x1 s1 cl sl hc hs hm
    unfold m_isMarked_j16 at hm
    obtain ⟨S1, e_S1, hm⟩ := lt_e hm
    refine zm_putI o fl_X3_123_3 rfl rfl ⟨rfl, rfl⟩ dX3_isMarked_16 e_S1 ?_
    refine zQ.s (fun h => zs_aload_n (i := 0) o dX3_isMarked_19 rfl rfl) ?_
    refine zm_getI o fl_X3_123_3 rfl dX3_isMarked_20 ?_
    refine zQ.b (fun h => zs_if_ne (tgt := 39) o dX3_isMarked_23 (by decide)) (fun c => ?_) (fun c => ?_)
    · have hm := if_e2 hm c
      refine zQ.fg (zl_n (zl_n zl_0)) ?_
      exact hj39 _ _ _ (by omega) (by omega) hm
    · have hm := if_e1 hm c
      refine zQ.s (fun h => zs_aload_n (i := 0) o dX3_isMarked_26 rfl rfl) ?_
      refine zm_getR o fl_X3_89_3 rfl dX3_isMarked_27 ?_
      refine zQ.s (fun h => zs_iload_n (i := 1) o dX3_isMarked_30 rfl rfl) ?_
      obtain ⟨g2, hm⟩ := gd_e hm
      refine zm_bald o rfl dX3_isMarked_31 g2 ?_
      refine zQ.b (fun h => zs_if_eq (tgt := 39) o dX3_isMarked_32 (by decide)) (fun c => ?_) (fun c => ?_)
      · have hm := if_e1 hm c
        refine zQ.fg (zl_n (zl_n zl_0)) ?_
        exact hj39 _ _ _ (by omega) (by omega) hm
      · have hm := if_e2 hm c
        refine zQ.s (fun h => zs_iconst (v := 1) o dX3_isMarked_35 (by decide)) ?_
        refine zQ.s (fun h => zs_goto (tgt := 40) o dX3_isMarked_36 (by decide)) ?_
        refine zQ.fg (zl_n (zl_n zl_0)) ?_
        exact hj40 _ _ _ _ (by omega) (by omega) hm
  unfold m_isMarked at hm
  refine zQ.s (fun h => zs_aload_n (i := 0) o dX3_isMarked_0 rfl rfl) ?_
  refine zQ.s (fun h => zs_iload_n (i := 1) o dX3_isMarked_1 rfl rfl) ?_
  refine zQ.s (fun h => zs_iconst (v := 0) o dX3_isMarked_2 (by decide)) ?_
  refine zQ.s (fun h => zs_bipush (v := 15) o dX3_isMarked_3 (by decide)) ?_
  obtain ⟨y1, c_y1, hm⟩ := bd_e hm
  refine zQ_Si o ml_X3_129 (M_in G _ _ _ _ c_y1) dX3_isMarked_5 rfl rfl rfl rfl (by omega) (by omega) ?_
  refine zQ.b (fun h => zs_if_eq (tgt := 15) o dX3_isMarked_8 (by decide)) (fun c => ?_) (fun c => ?_)
  · have hm := if_e1 hm c
    refine zQ.s (fun h => zs_iconst (v := 1) o dX3_isMarked_15 (by decide)) ?_
    exact hj16 _ _ _ _ _ (by omega) (by omega) hm
  · have hm := if_e2 hm c
    refine zQ.s (fun h => zs_iconst (v := 0) o dX3_isMarked_11 (by decide)) ?_
    refine zQ.s (fun h => zs_goto (tgt := 16) o dX3_isMarked_12 (by decide)) ?_
    exact hj16 _ _ _ _ _ (by omega) (by omega) hm

def m_lineAt_j35 (S : MS) (s0 : Int32) : Option (MS × Int32) :=
  some (S, s0)
def m_lineAt_j15 (S : MS) (x1 : Int32) (s1 : Int32) : Option (MS × Int32) :=
  lt (tS S 54 s1) fun S1 =>
  if (mS S1 54) ≤ (0 : Int32) then
    gd (inb x1 4) <|
    m_lineAt_j35 S1 (mA S1 32 (ix x1))
  else
    m_lineAt_j35 S1 (0 : Int32)
def m_lineAt (S : MS) (a1 : Int32) : Option (MS × Int32) :=
  bd (m_in a1 (0 : Int32) (3 : Int32)) fun y1 =>
  if y1 = (0 : Int32) then
    m_lineAt_j15 S a1 (1 : Int32)
  else
    m_lineAt_j15 S a1 (0 : Int32)

set_option maxHeartbeats 40000000 in
theorem M_lineAt (G : zG) (p : Nat) (g : MG) (q n : Nat) (S : MS) (a1 : Int32) (V : Int32) (S9 : MS) (hm : m_lineAt S a1 = some (S9, V)) : zMi G yX3_lineAt cX3_lineAt 2 (some .int) 1 0 0 p g q n [.int a1] S V S9 := by
  intro h0 h hI0
  refine zCo.st [some (zrf p), some (.int a1)] rfl rfl (by simp only [zarg_r, zarg_i, zarg_l, zarg_0]; rfl) (fun X o f0 hin hw0 => ?_)
  have f := f0.e
  refine (?_ : zQ (IM h0 p g q n S) G X 0 0 0 [some (zrf p), some (.int a1)] []) h hI0 hw0
  clear hI0 hw0
  generalize hR9 : ((S9, V) : (MS × Int32)) = R at hm
  have hj35 : ∀ (S : MS) (s0 : Int32) (cl sl : Nat), cl + (0) ≤ 0 → sl + (0) ≤ 0 → m_lineAt_j35 S s0 = some R → zQ (IM h0 p g q n S) G X cl sl 35 [none, none] [.int s0] := by
    intro S s0 cl sl hc hs hm
    unfold m_lineAt_j35 at hm
    refine zm_reti o f dX3_lineAt_35 rfl (by omega) (by omega) ((so_e hm).trans hR9.symm)
  have hj15 : ∀ (S : MS) (x1 : Int32) (s1 : Int32) (cl sl : Nat), cl + (0) ≤ 0 → sl + (0) ≤ 0 → m_lineAt_j15 S x1 s1 = some R → zQ (IM h0 p g q n S) G X cl sl 15 [some (zrf p), some (.int x1)] [.int s1, zrf p] := by
    intro S x1 s1 cl sl hc hs hm
    unfold m_lineAt_j15 at hm
    obtain ⟨S1, e_S1, hm⟩ := lt_e hm
    refine zm_putI o fl_X3_123_3 rfl rfl ⟨rfl, rfl⟩ dX3_lineAt_15 e_S1 ?_
    refine zQ.s (fun h => zs_aload_n (i := 0) o dX3_lineAt_18 rfl rfl) ?_
    refine zm_getI o fl_X3_123_3 rfl dX3_lineAt_19 ?_
    refine zQ.b (fun h => zs_if_le (tgt := 29) o dX3_lineAt_22 (by decide)) (fun c => ?_) (fun c => ?_)
    · have hm := if_e1 hm c
      refine zQ.s (fun h => zs_aload_n (i := 0) o dX3_lineAt_29 rfl rfl) ?_
      refine zm_getR o fl_X3_92_3 rfl dX3_lineAt_30 ?_
      refine zQ.s (fun h => zs_iload_n (i := 1) o dX3_lineAt_33 rfl rfl) ?_
      obtain ⟨g2, hm⟩ := gd_e hm
      refine zm_iald o rfl dX3_lineAt_34 g2 ?_
      refine zQ.fg (zl_n (zl_n zl_0)) ?_
      exact hj35 _ _ _ _ (by omega) (by omega) hm
    · have hm := if_e2 hm c
      refine zQ.s (fun h => zs_iconst (v := 0) o dX3_lineAt_25 (by decide)) ?_
      refine zQ.s (fun h => zs_goto (tgt := 35) o dX3_lineAt_26 (by decide)) ?_
      refine zQ.fg (zl_n (zl_n zl_0)) ?_
      exact hj35 _ _ _ _ (by omega) (by omega) hm
  unfold m_lineAt at hm
  refine zQ.s (fun h => zs_aload_n (i := 0) o dX3_lineAt_0 rfl rfl) ?_
  refine zQ.s (fun h => zs_iload_n (i := 1) o dX3_lineAt_1 rfl rfl) ?_
  refine zQ.s (fun h => zs_iconst (v := 0) o dX3_lineAt_2 (by decide)) ?_
  refine zQ.s (fun h => zs_iconst (v := 3) o dX3_lineAt_3 (by decide)) ?_
  obtain ⟨y1, c_y1, hm⟩ := bd_e hm
  refine zQ_Si o ml_X3_129 (M_in G _ _ _ _ c_y1) dX3_lineAt_4 rfl rfl rfl rfl (by omega) (by omega) ?_
  refine zQ.b (fun h => zs_if_eq (tgt := 14) o dX3_lineAt_7 (by decide)) (fun c => ?_) (fun c => ?_)
  · have hm := if_e1 hm c
    refine zQ.s (fun h => zs_iconst (v := 1) o dX3_lineAt_14 (by decide)) ?_
    exact hj15 _ _ _ _ _ (by omega) (by omega) hm
  · have hm := if_e2 hm c
    refine zQ.s (fun h => zs_iconst (v := 0) o dX3_lineAt_10 (by decide)) ?_
    refine zQ.s (fun h => zs_goto (tgt := 15) o dX3_lineAt_11 (by decide)) ?_
    exact hj15 _ _ _ _ _ (by omega) (by omega) hm

def m_asked (S : MS) : Option (MS × Int32) :=
  lt (tS S 54 (0 : Int32)) fun S1 =>
  some (S1, mS S1 35)

set_option maxHeartbeats 40000000 in
theorem M_asked (G : zG) (p : Nat) (g : MG) (q n : Nat) (S : MS) (V : Int32) (S9 : MS) (hm : m_asked S = some (S9, V)) : zMi G yX3_asked cX3_asked 1 (some .int) 0 0 0 p g q n [] S V S9 := by
  intro h0 h hI0
  refine zCo.st [some (zrf p)] rfl rfl (by simp only [zarg_r, zarg_i, zarg_l, zarg_0]; rfl) (fun X o f0 hin hw0 => ?_)
  have f := f0.e
  refine (?_ : zQ (IM h0 p g q n S) G X 0 0 0 [some (zrf p)] []) h hI0 hw0
  clear hI0 hw0
  generalize hR9 : ((S9, V) : (MS × Int32)) = R at hm
  unfold m_asked at hm
  refine zQ.s (fun h => zs_aload_n (i := 0) o dX3_asked_0 rfl rfl) ?_
  refine zQ.s (fun h => zs_iconst (v := 0) o dX3_asked_1 (by decide)) ?_
  obtain ⟨S1, e_S1, hm⟩ := lt_e hm
  refine zm_putI o fl_X3_123_3 rfl rfl ⟨rfl, rfl⟩ dX3_asked_2 e_S1 ?_
  refine zQ.s (fun h => zs_aload_n (i := 0) o dX3_asked_5 rfl rfl) ?_
  refine zm_getI o fl_X3_222_3 rfl dX3_asked_6 ?_
  refine zm_reti o f dX3_asked_9 rfl (by omega) (by omega) ((so_e hm).trans hR9.symm)

def m_lost_j37 (S : MS) (s0 : Int32) : Option (MS × Int32) :=
  some (S, s0)
def m_lost_j14 (S : MS) (x1 : Int32) (s1 : Int32) : Option (MS × Int32) :=
  lt (tS S 54 s1) fun S1 =>
  if (mS S1 54) ≤ (0 : Int32) then
    bd (m_reason x1) fun y2 =>
    gd (inb y2 8) <|
    m_lost_j37 S1 (mA S1 47 (ix y2))
  else
    m_lost_j37 S1 (0 : Int32)
def m_lost (S : MS) (a1 : Int32) : Option (MS × Int32) :=
  bd (m_reason a1) fun y1 =>
  if y1 = (-1 : Int32) then
    m_lost_j14 S a1 (1 : Int32)
  else
    m_lost_j14 S a1 (0 : Int32)

set_option maxHeartbeats 40000000 in
theorem M_lost (G : zG) (p : Nat) (g : MG) (q n : Nat) (S : MS) (a1 : Int32) (V : Int32) (S9 : MS) (hm : m_lost S a1 = some (S9, V)) : zMi G yX3_lost cX3_lost 2 (some .int) 1 0 0 p g q n [.int a1] S V S9 := by
  intro h0 h hI0
  refine zCo.st [some (zrf p), some (.int a1)] rfl rfl (by simp only [zarg_r, zarg_i, zarg_l, zarg_0]; rfl) (fun X o f0 hin hw0 => ?_)
  have f := f0.e
  refine (?_ : zQ (IM h0 p g q n S) G X 0 0 0 [some (zrf p), some (.int a1)] []) h hI0 hw0
  clear hI0 hw0
  generalize hR9 : ((S9, V) : (MS × Int32)) = R at hm
  have hj37 : ∀ (S : MS) (s0 : Int32) (cl sl : Nat), cl + (0) ≤ 0 → sl + (0) ≤ 0 → m_lost_j37 S s0 = some R → zQ (IM h0 p g q n S) G X cl sl 37 [none, none] [.int s0] := by
    intro S s0 cl sl hc hs hm
    unfold m_lost_j37 at hm
    refine zm_reti o f dX3_lost_37 rfl (by omega) (by omega) ((so_e hm).trans hR9.symm)
  have hj14 : ∀ (S : MS) (x1 : Int32) (s1 : Int32) (cl sl : Nat), cl + (0) ≤ 0 → sl + (0) ≤ 0 → m_lost_j14 S x1 s1 = some R → zQ (IM h0 p g q n S) G X cl sl 14 [some (zrf p), some (.int x1)] [.int s1, zrf p] := by
    intro S x1 s1 cl sl hc hs hm
    unfold m_lost_j14 at hm
    obtain ⟨S1, e_S1, hm⟩ := lt_e hm
    refine zm_putI o fl_X3_123_3 rfl rfl ⟨rfl, rfl⟩ dX3_lost_14 e_S1 ?_
    refine zQ.s (fun h => zs_aload_n (i := 0) o dX3_lost_17 rfl rfl) ?_
    refine zm_getI o fl_X3_123_3 rfl dX3_lost_18 ?_
    refine zQ.b (fun h => zs_if_le (tgt := 28) o dX3_lost_21 (by decide)) (fun c => ?_) (fun c => ?_)
    · have hm := if_e1 hm c
      refine zQ.s (fun h => zs_aload_n (i := 0) o dX3_lost_28 rfl rfl) ?_
      refine zm_getR o fl_X3_111_3 rfl dX3_lost_29 ?_
      refine zQ.s (fun h => zs_iload_n (i := 1) o dX3_lost_32 rfl rfl) ?_
      obtain ⟨y2, c_y2, hm⟩ := bd_e hm
      refine zQ_Si o ml_X3_324 (M_reason G _ _ c_y2) dX3_lost_33 rfl rfl rfl rfl (by omega) (by omega) ?_
      obtain ⟨g3, hm⟩ := gd_e hm
      refine zm_iald o rfl dX3_lost_36 g3 ?_
      refine zQ.fg (zl_n (zl_n zl_0)) ?_
      exact hj37 _ _ _ _ (by omega) (by omega) hm
    · have hm := if_e2 hm c
      refine zQ.s (fun h => zs_iconst (v := 0) o dX3_lost_24 (by decide)) ?_
      refine zQ.s (fun h => zs_goto (tgt := 37) o dX3_lost_25 (by decide)) ?_
      refine zQ.fg (zl_n (zl_n zl_0)) ?_
      exact hj37 _ _ _ _ (by omega) (by omega) hm
  unfold m_lost at hm
  refine zQ.s (fun h => zs_aload_n (i := 0) o dX3_lost_0 rfl rfl) ?_
  refine zQ.s (fun h => zs_iload_n (i := 1) o dX3_lost_1 rfl rfl) ?_
  obtain ⟨y1, c_y1, hm⟩ := bd_e hm
  refine zQ_Si o ml_X3_324 (M_reason G _ _ c_y1) dX3_lost_2 rfl rfl rfl rfl (by omega) (by omega) ?_
  refine zQ.s (fun h => zs_iconst (v := -1) o dX3_lost_5 (by decide)) ?_
  refine zQ.b (fun h => zs_icmp_ne (tgt := 13) o dX3_lost_6 (by decide)) (fun c => ?_) (fun c => ?_)
  · have hm := if_e2 hm c
    refine zQ.s (fun h => zs_iconst (v := 0) o dX3_lost_13 (by decide)) ?_
    exact hj14 _ _ _ _ _ (by omega) (by omega) hm
  · have hm := if_e1 hm c
    refine zQ.s (fun h => zs_iconst (v := 1) o dX3_lost_9 (by decide)) ?_
    refine zQ.s (fun h => zs_goto (tgt := 14) o dX3_lost_10 (by decide)) ?_
    exact hj14 _ _ _ _ _ (by omega) (by omega) hm

def m_wrong (S : MS) : Option (MS × Int32) :=
  lt (tS S 54 (0 : Int32)) fun S1 =>
  some (S1, mS S1 48)

set_option maxHeartbeats 40000000 in
theorem M_wrong (G : zG) (p : Nat) (g : MG) (q n : Nat) (S : MS) (V : Int32) (S9 : MS) (hm : m_wrong S = some (S9, V)) : zMi G yX3_wrong cX3_wrong 1 (some .int) 0 0 0 p g q n [] S V S9 := by
  intro h0 h hI0
  refine zCo.st [some (zrf p)] rfl rfl (by simp only [zarg_r, zarg_i, zarg_l, zarg_0]; rfl) (fun X o f0 hin hw0 => ?_)
  have f := f0.e
  refine (?_ : zQ (IM h0 p g q n S) G X 0 0 0 [some (zrf p)] []) h hI0 hw0
  clear hI0 hw0
  generalize hR9 : ((S9, V) : (MS × Int32)) = R at hm
  unfold m_wrong at hm
  refine zQ.s (fun h => zs_aload_n (i := 0) o dX3_wrong_0 rfl rfl) ?_
  refine zQ.s (fun h => zs_iconst (v := 0) o dX3_wrong_1 (by decide)) ?_
  obtain ⟨S1, e_S1, hm⟩ := lt_e hm
  refine zm_putI o fl_X3_123_3 rfl rfl ⟨rfl, rfl⟩ dX3_wrong_2 e_S1 ?_
  refine zQ.s (fun h => zs_aload_n (i := 0) o dX3_wrong_5 rfl rfl) ?_
  refine zm_getI o fl_X3_283_3 rfl dX3_wrong_6 ?_
  refine zm_reti o f dX3_wrong_9 rfl (by omega) (by omega) ((so_e hm).trans hR9.symm)

def m_early (S : MS) : Option (MS × Int32) :=
  lt (tS S 54 (0 : Int32)) fun S1 =>
  some (S1, mS S1 49)

set_option maxHeartbeats 40000000 in
theorem M_early (G : zG) (p : Nat) (g : MG) (q n : Nat) (S : MS) (V : Int32) (S9 : MS) (hm : m_early S = some (S9, V)) : zMi G yX3_early cX3_early 1 (some .int) 0 0 0 p g q n [] S V S9 := by
  intro h0 h hI0
  refine zCo.st [some (zrf p)] rfl rfl (by simp only [zarg_r, zarg_i, zarg_l, zarg_0]; rfl) (fun X o f0 hin hw0 => ?_)
  have f := f0.e
  refine (?_ : zQ (IM h0 p g q n S) G X 0 0 0 [some (zrf p)] []) h hI0 hw0
  clear hI0 hw0
  generalize hR9 : ((S9, V) : (MS × Int32)) = R at hm
  unfold m_early at hm
  refine zQ.s (fun h => zs_aload_n (i := 0) o dX3_early_0 rfl rfl) ?_
  refine zQ.s (fun h => zs_iconst (v := 0) o dX3_early_1 (by decide)) ?_
  obtain ⟨S1, e_S1, hm⟩ := lt_e hm
  refine zm_putI o fl_X3_123_3 rfl rfl ⟨rfl, rfl⟩ dX3_early_2 e_S1 ?_
  refine zQ.s (fun h => zs_aload_n (i := 0) o dX3_early_5 rfl rfl) ?_
  refine zm_getI o fl_X3_268_3 rfl dX3_early_6 ?_
  refine zm_reti o f dX3_early_9 rfl (by omega) (by omega) ((so_e hm).trans hR9.symm)

def m_thrownAway (S : MS) : Option (MS × Int32) :=
  lt (tS S 54 (0 : Int32)) fun S1 =>
  some (S1, mS S1 50)

set_option maxHeartbeats 40000000 in
theorem M_thrownAway (G : zG) (p : Nat) (g : MG) (q n : Nat) (S : MS) (V : Int32) (S9 : MS) (hm : m_thrownAway S = some (S9, V)) : zMi G yX3_thrownAway cX3_thrownAway 1 (some .int) 0 0 0 p g q n [] S V S9 := by
  intro h0 h hI0
  refine zCo.st [some (zrf p)] rfl rfl (by simp only [zarg_r, zarg_i, zarg_l, zarg_0]; rfl) (fun X o f0 hin hw0 => ?_)
  have f := f0.e
  refine (?_ : zQ (IM h0 p g q n S) G X 0 0 0 [some (zrf p)] []) h hI0 hw0
  clear hI0 hw0
  generalize hR9 : ((S9, V) : (MS × Int32)) = R at hm
  unfold m_thrownAway at hm
  refine zQ.s (fun h => zs_aload_n (i := 0) o dX3_thrownAway_0 rfl rfl) ?_
  refine zQ.s (fun h => zs_iconst (v := 0) o dX3_thrownAway_1 (by decide)) ?_
  obtain ⟨S1, e_S1, hm⟩ := lt_e hm
  refine zm_putI o fl_X3_123_3 rfl rfl ⟨rfl, rfl⟩ dX3_thrownAway_2 e_S1 ?_
  refine zQ.s (fun h => zs_aload_n (i := 0) o dX3_thrownAway_5 rfl rfl) ?_
  refine zm_getI o fl_X3_253_3 rfl dX3_thrownAway_6 ?_
  refine zm_reti o f dX3_thrownAway_9 rfl (by omega) (by omega) ((so_e hm).trans hR9.symm)

def m_taken (S : MS) : Option (MS × Int32) :=
  lt (tS S 54 (0 : Int32)) fun S1 =>
  some (S1, mS S1 51)

set_option maxHeartbeats 40000000 in
theorem M_taken (G : zG) (p : Nat) (g : MG) (q n : Nat) (S : MS) (V : Int32) (S9 : MS) (hm : m_taken S = some (S9, V)) : zMi G yX3_taken cX3_taken 1 (some .int) 0 0 0 p g q n [] S V S9 := by
  intro h0 h hI0
  refine zCo.st [some (zrf p)] rfl rfl (by simp only [zarg_r, zarg_i, zarg_l, zarg_0]; rfl) (fun X o f0 hin hw0 => ?_)
  have f := f0.e
  refine (?_ : zQ (IM h0 p g q n S) G X 0 0 0 [some (zrf p)] []) h hI0 hw0
  clear hI0 hw0
  generalize hR9 : ((S9, V) : (MS × Int32)) = R at hm
  unfold m_taken at hm
  refine zQ.s (fun h => zs_aload_n (i := 0) o dX3_taken_0 rfl rfl) ?_
  refine zQ.s (fun h => zs_iconst (v := 0) o dX3_taken_1 (by decide)) ?_
  obtain ⟨S1, e_S1, hm⟩ := lt_e hm
  refine zm_putI o fl_X3_123_3 rfl rfl ⟨rfl, rfl⟩ dX3_taken_2 e_S1 ?_
  refine zQ.s (fun h => zs_aload_n (i := 0) o dX3_taken_5 rfl rfl) ?_
  refine zm_getI o fl_X3_234_3 rfl dX3_taken_6 ?_
  refine zm_reti o f dX3_taken_9 rfl (by omega) (by omega) ((so_e hm).trans hR9.symm)

def m_hits (S : MS) : Option (MS × Int64) :=
  lt (tS S 54 (0 : Int32)) fun S1 =>
  some (S1, ((mS S1 52).toInt64) + ((1000 : Int64) * ((mS S1 53).toInt64)))

set_option maxHeartbeats 40000000 in
theorem M_hits (G : zG) (p : Nat) (g : MG) (q n : Nat) (S : MS) (V : Int64) (S9 : MS) (hm : m_hits S = some (S9, V)) : zMl G yX3_hits cX3_hits 1 (some .long) 0 0 0 p g q n [] S V S9 := by
  intro h0 h hI0
  refine zCo.st [some (zrf p)] rfl rfl (by simp only [zarg_r, zarg_i, zarg_l, zarg_0]; rfl) (fun X o f0 hin hw0 => ?_)
  have f := f0.e
  refine (?_ : zQ (IM h0 p g q n S) G X 0 0 0 [some (zrf p)] []) h hI0 hw0
  clear hI0 hw0
  generalize hR9 : ((S9, V) : (MS × Int64)) = R at hm
  unfold m_hits at hm
  refine zQ.s (fun h => zs_aload_n (i := 0) o dX3_hits_0 rfl rfl) ?_
  refine zQ.s (fun h => zs_iconst (v := 0) o dX3_hits_1 (by decide)) ?_
  obtain ⟨S1, e_S1, hm⟩ := lt_e hm
  refine zm_putI o fl_X3_123_3 rfl rfl ⟨rfl, rfl⟩ dX3_hits_2 e_S1 ?_
  refine zQ.s (fun h => zs_aload_n (i := 0) o dX3_hits_5 rfl rfl) ?_
  refine zm_getI o fl_X3_237_3 rfl dX3_hits_6 ?_
  refine zQ.s (fun h => zs_i2l o dX3_hits_9 rfl) ?_
  refine zQ.s (fun h => zs_ldc2 o q3083 dX3_hits_10) ?_
  refine zQ.s (fun h => zs_aload_n (i := 0) o dX3_hits_13 rfl rfl) ?_
  refine zm_getI o fl_X3_243_3 rfl dX3_hits_14 ?_
  refine zQ.s (fun h => zs_i2l o dX3_hits_17 rfl) ?_
  refine zQ.s (fun h => zs_lmul o dX3_hits_18) ?_
  refine zQ.s (fun h => zs_ladd o dX3_hits_19) ?_
  refine zm_retl o f dX3_hits_20 (by omega) (by omega) ((so_e hm).trans hR9.symm)

def m_share_j38 (S : MS) (s0 : UInt32) : Option (MS × UInt32) :=
  some (S, s0)
def m_share_j13 (S : MS) (s1 : Int32) : Option (MS × UInt32) :=
  lt (tS S 54 s1) fun S1 =>
  if (mS S1 54) ≤ (0 : Int32) then
    gd (fdg (FP.i2f (mS S1 46)) (FP.i2f (mS S1 36))) <|
    m_share_j38 S1 (FP.fdiv (FP.i2f (mS S1 46)) (FP.i2f (mS S1 36)))
  else
    m_share_j38 S1 FP.fconst0
def m_share (S : MS) : Option (MS × UInt32) :=
  if (mS S 36) = (0 : Int32) then
    m_share_j13 S (1 : Int32)
  else
    m_share_j13 S (0 : Int32)

set_option maxHeartbeats 40000000 in
theorem M_share (G : zG) (p : Nat) (g : MG) (q n : Nat) (S : MS) (V : UInt32) (S9 : MS) (hm : m_share S = some (S9, V)) : zMf G yX3_share cX3_share 1 (some .float) 0 0 0 p g q n [] S V S9 := by
  intro h0 h hI0
  refine zCo.st [some (zrf p)] rfl rfl (by simp only [zarg_r, zarg_i, zarg_l, zarg_0]; rfl) (fun X o f0 hin hw0 => ?_)
  have f := f0.e
  refine (?_ : zQ (IM h0 p g q n S) G X 0 0 0 [some (zrf p)] []) h hI0 hw0
  clear hI0 hw0
  generalize hR9 : ((S9, V) : (MS × UInt32)) = R at hm
  have hj38 : ∀ (S : MS) (s0 : UInt32) (cl sl : Nat), cl + (0) ≤ 0 → sl + (0) ≤ 0 → m_share_j38 S s0 = some R → zQ (IM h0 p g q n S) G X cl sl 38 [none] [.float s0] := by
    intro S s0 cl sl hc hs hm
    unfold m_share_j38 at hm
    refine zm_retf o f dX3_share_38 (by omega) (by omega) ((so_e hm).trans hR9.symm)
  have hj13 : ∀ (S : MS) (s1 : Int32) (cl sl : Nat), cl + (0) ≤ 0 → sl + (0) ≤ 0 → m_share_j13 S s1 = some R → zQ (IM h0 p g q n S) G X cl sl 13 [some (zrf p)] [.int s1, zrf p] := by
    intro S s1 cl sl hc hs hm
    unfold m_share_j13 at hm
    obtain ⟨S1, e_S1, hm⟩ := lt_e hm
    refine zm_putI o fl_X3_123_3 rfl rfl ⟨rfl, rfl⟩ dX3_share_13 e_S1 ?_
    refine zQ.s (fun h => zs_aload_n (i := 0) o dX3_share_16 rfl rfl) ?_
    refine zm_getI o fl_X3_123_3 rfl dX3_share_17 ?_
    refine zQ.b (fun h => zs_if_le (tgt := 27) o dX3_share_20 (by decide)) (fun c => ?_) (fun c => ?_)
    · have hm := if_e1 hm c
      refine zQ.s (fun h => zs_aload_n (i := 0) o dX3_share_27 rfl rfl) ?_
      refine zm_getI o fl_X3_150_3 rfl dX3_share_28 ?_
      refine zQ.s (fun h => zs_i2f o dX3_share_31) ?_
      refine zQ.s (fun h => zs_aload_n (i := 0) o dX3_share_32 rfl rfl) ?_
      refine zm_getI o fl_X3_133_3 rfl dX3_share_33 ?_
      refine zQ.s (fun h => zs_i2f o dX3_share_36) ?_
      obtain ⟨g2, hm⟩ := gd_e hm
      refine zQ.s (fun h => zs_fdiv o dX3_share_37 (fdg_e g2)) ?_
      refine zQ.fg (zl_n zl_0) ?_
      exact hj38 _ _ _ _ (by omega) (by omega) hm
    · have hm := if_e2 hm c
      refine zQ.s (fun h => zs_fconst0 o dX3_share_23) ?_
      refine zQ.s (fun h => zs_goto (tgt := 38) o dX3_share_24 (by decide)) ?_
      refine zQ.fg (zl_n zl_0) ?_
      exact hj38 _ _ _ _ (by omega) (by omega) hm
  unfold m_share at hm
  refine zQ.s (fun h => zs_aload_n (i := 0) o dX3_share_0 rfl rfl) ?_
  refine zQ.s (fun h => zs_aload_n (i := 0) o dX3_share_1 rfl rfl) ?_
  refine zm_getI o fl_X3_133_3 rfl dX3_share_2 ?_
  refine zQ.b (fun h => zs_if_ne (tgt := 12) o dX3_share_5 (by decide)) (fun c => ?_) (fun c => ?_)
  · have hm := if_e2 hm c
    refine zQ.s (fun h => zs_iconst (v := 0) o dX3_share_12 (by decide)) ?_
    exact hj13 _ _ _ _ (by omega) (by omega) hm
  · have hm := if_e1 hm c
    refine zQ.s (fun h => zs_iconst (v := 1) o dX3_share_8 (by decide)) ?_
    refine zQ.s (fun h => zs_goto (tgt := 13) o dX3_share_9 (by decide)) ?_
    exact hj13 _ _ _ _ (by omega) (by omega) hm

def m_isSame (S : MS) : Option (MS × Int32) :=
  lt (tS S 54 (0 : Int32)) fun S1 =>
  some (S1, (1 : Int32))

set_option maxHeartbeats 40000000 in
theorem M_isSame (G : zG) (p : Nat) (g : MG) (q n : Nat) (S : MS) (V : Int32) (S9 : MS) (hm : m_isSame S = some (S9, V)) : zMi G yX3_isSame cX3_isSame 1 (some .boolean) 0 0 0 p g q n [] S V S9 := by
  intro h0 h hI0
  refine zCo.st [some (zrf p)] rfl rfl (by simp only [zarg_r, zarg_i, zarg_l, zarg_0]; rfl) (fun X o f0 hin hw0 => ?_)
  have f := f0.e
  refine (?_ : zQ (IM h0 p g q n S) G X 0 0 0 [some (zrf p)] []) h hI0 hw0
  clear hI0 hw0
  generalize hR9 : ((S9, V) : (MS × Int32)) = R at hm
  unfold m_isSame at hm
  refine zQ.s (fun h => zs_aload_n (i := 0) o dX3_isSame_0 rfl rfl) ?_
  refine zQ.s (fun h => zs_iconst (v := 0) o dX3_isSame_1 (by decide)) ?_
  obtain ⟨S1, e_S1, hm⟩ := lt_e hm
  refine zm_putI o fl_X3_123_3 rfl rfl ⟨rfl, rfl⟩ dX3_isSame_2 e_S1 ?_
  refine zQ.s (fun h => zs_iconst (v := 1) o dX3_isSame_5 (by decide)) ?_
  refine zm_reti o f dX3_isSame_6 rfl (by omega) (by omega) ((so_e hm).trans hR9.symm)

def m_isWhole (S : MS) : Option (MS × Int32) :=
  lt (tS S 54 (0 : Int32)) fun S1 =>
  some (S1, (1 : Int32))

set_option maxHeartbeats 40000000 in
theorem M_isWhole (G : zG) (p : Nat) (g : MG) (q n : Nat) (S : MS) (V : Int32) (S9 : MS) (hm : m_isWhole S = some (S9, V)) : zMi G yX3_isWhole cX3_isWhole 1 (some .boolean) 0 0 0 p g q n [] S V S9 := by
  intro h0 h hI0
  refine zCo.st [some (zrf p)] rfl rfl (by simp only [zarg_r, zarg_i, zarg_l, zarg_0]; rfl) (fun X o f0 hin hw0 => ?_)
  have f := f0.e
  refine (?_ : zQ (IM h0 p g q n S) G X 0 0 0 [some (zrf p)] []) h hI0 hw0
  clear hI0 hw0
  generalize hR9 : ((S9, V) : (MS × Int32)) = R at hm
  unfold m_isWhole at hm
  refine zQ.s (fun h => zs_aload_n (i := 0) o dX3_isWhole_0 rfl rfl) ?_
  refine zQ.s (fun h => zs_iconst (v := 0) o dX3_isWhole_1 (by decide)) ?_
  obtain ⟨S1, e_S1, hm⟩ := lt_e hm
  refine zm_putI o fl_X3_123_3 rfl rfl ⟨rfl, rfl⟩ dX3_isWhole_2 e_S1 ?_
  refine zQ.s (fun h => zs_iconst (v := 1) o dX3_isWhole_5 (by decide)) ?_
  refine zm_reti o f dX3_isWhole_6 rfl (by omega) (by omega) ((so_e hm).trans hR9.symm)

/-! MORE ROWS OVER THE HEAP: text, copies of arrays, a default method, floats -/
set_option maxRecDepth 100000
def leB (B : Nat) : Bool := decide (B ≤ 60000000)
def byt (i : Int32) : Bool := decide (narrow .byte (.int i) = .int i)
theorem byt_e {i : Int32} (h : byt i = true) : narrow .byte (.int i) = .int i := of_decide_eq_true h
def cpk (a n : Int32) (N : Nat) : Bool := decide (¬ a < 0 ∧ ¬ n < 0 ∧ ix a + ix n ≤ N)
theorem cpk_e {a n : Int32} {N : Nat} (h : cpk a n N = true) : ¬ a < 0 ∧ ¬ n < 0 ∧ ix a + ix n ≤ N := of_decide_eq_true h
def npq (p q : Nat) : Bool := decide (p ≠ q)
/-- n ints of the array p from s on are copied to the array q from d on -/
def cpI (h : zH) (p q s d n : Nat) : zH := (zT h, zK h, zN h, fun c r f x => if c = 201 ∧ r = (zK h q).2 ∧ x = q ∧ d ≤ f ∧ f < d + n then zI h 201 (zK h p).2 (s + (f - d)) p else zI h c r f x, zR h, zL h, zD h)
def cpR (h : zH) (p q s d n : Nat) : zH := (zT h, zK h, zN h, zI h, fun c r f x => if c = 205 ∧ r = (zK h q).2 ∧ x = q ∧ d ≤ f ∧ f < d + n then zR h 205 (zK h p).2 (s + (f - d)) p else zR h c r f x, zL h, zD h)
/-- what lies in n places of an array of objects may lie there -/
def okc (h : zH) (p n : Nat) : Bool := (List.range n).all fun i => oka h (zR h 205 (zK h p).2 i p)
theorem okc_e {h : zH} {p n : Nat} (g : okc h p n = true) {i : Nat} (hi : i < n) : oka h (zR h 205 (zK h p).2 i p) = true := List.all_eq_true.mp g i (List.mem_range.mpr hi)
theorem oka_e {h : zH} {x : Nat} (g : oka h x = true) : x = 0 ∨ ((zK h x).1 ∈ zcs) := by
  unfold oka at g
  rw [Bool.or_eq_true] at g
  rcases g with g | g
  · exact Or.inl (by simpa using g)
  · exact Or.inr (List.contains_iff_mem.mp g)
theorem nn_int {z : Int32} (hz : ¬ z < 0) : z.toInt = (z.toNatClampNeg : Int) := by
  have hz0 : (0 : Int) ≤ z.toInt := by
    have := Int32.not_lt.mp hz
    simpa using Int32.le_iff_toInt_le.mp this
  show z.toInt = ((z.toInt.toNat : Nat) : Int)
  omega
section ZM
variable {h h9 : zH} {G : zG} {X : zX} {cc : ByteArray} {own : String} {nL fr lo mc ms cl sl pc : Nat} {L : List (Option Value)} {st : List Value}
theorem zh_ldcS {sp : Nat} (o : zOk G X cc "Reorderium" nL fr lo mc ms) (hs : sp = zGs G + 1) (hd : decode cc pc = .ok (.ldc 110, 2)) (kk : zQ (EH h) G X cl sl (pc + 2) L (zrf sp :: st)) : zQ (EH h) G X cl sl pc L st := fun h1 hI hw => by
  intro H locs ls hR hl hL
  subst hs
  exact va_ldcS o.x o.b o.ow o.k.2.2.2.2.2.2.2.2.2.2.2.2.2 hd (kk h1 hI hw H locs ls hR hl hL)
theorem zA_i {h : zH} {r p : Nat} : zA h 201 r p = fun j => .int (zI h 201 r j p) := by funext j; unfold zA; simp
theorem zA_o {h : zH} {r p : Nat} : zA h 205 r p = fun j => zrf (zR h 205 r j p) := by funext j; unfold zA; simp
theorem copiedV (c0 c1 : ClassId) {n0 n1 : Nat} (f g : Nat → Value) {sp dp n : Int32} (h4 : sp.toNatClampNeg + n.toNatClampNeg ≤ n0) : copied (arrV c0 n0 f) (arrV c1 n1 g) sp dp n = arrV c1 n1 (va_cpy f g sp.toNatClampNeg dp.toNatClampNeg n.toNatClampNeg) := va_copied (fun z => z) c0 c1 f g h4
theorem arr_put {c r a n0 : Nat} {f g : Nat → Value} {h' : zH} {H : Heap} (hR : Rep G h H) (hk : zK h (a + 1) = (c, r)) (h1 : 200 ≤ c) (hb : zB G ≤ a) (hc : H[a]? = some (arrV (zGa G c) n0 f)) (hn : zN h (a + 1) = n0)
    (e1 : zT h' = zT h) (e2 : zK h' = zK h) (e3 : zN h' = zN h) (hv : ∀ p', p' ≠ a + 1 → ∀ c r k, zV h' c r p' k = zV h c r p' k ∧ zA h' c r p' k = zA h c r p' k) (hg : g = zA h' c r (a + 1)) : Rep G h' (H.setIfInBounds a (arrV (zGa G c) n0 g)) := by
  have hl : a < H.size := (Array.getElem?_eq_some_iff.mp hc).1
  refine hR.put (a := a) e1 e2 e3 (by simp) (fun q hq => by simp [Array.getElem?_setIfInBounds, Ne.symm hq]) hb hv ?_
  unfold zat
  rw [e2, e3, hk]
  refine Or.inr ⟨a, rfl, fun _ => hb, Or.inr ⟨h1, ?_⟩⟩
  rw [hn, ← hg]
  simp [Array.getElem?_setIfInBounds, hl]
theorem zh_copyI {p q : Nat} {s d n : Int32} {index : Nat} (o : zOk G X cc own nL fr lo mc ms) (hlink : Cond.methodLink own index arraycopyName ∈ lw_all) (hnat : Cond.native arraycopyName ∈ lw_all) (hstat : Cond.static arraycopyName ∈ lw_all) (hini : Cond.initialized "java/lang/System" ∈ lw_all)
    (g1 : kd h p 201 = true) (g2 : kd h q 201 = true) (g3 : wr h q = true) (g4 : cpk s n (zN h p) = true) (g5 : cpk d n (zN h q) = true) (g6 : npq p q = true) (hd : decode cc pc = .ok (.invokestatic index, 3)) (e : h9 = cpI h p q (ix s) (ix d) (ix n)) (hb : (Nat.ble 1 fr && Nat.ble (8 + 16 + 11) lo) = true) (hr : Nat.ble st.length 4 = true)
    (kk : zQ (EH h9) G X cl sl (pc + 3) L st) : zQ (EH h) G X cl sl pc L (.int n :: .int d :: zrf q :: .int s :: zrf p :: st) := fun h1 hI hw => by
  have e0 : h = h1 := (hI : h1 = h).symm
  subst e0
  subst e
  intro H locs ls hR hl hL
  obtain ⟨a0, rfl, -, hc0⟩ := hR.arr (kd_e g1) (by decide)
  obtain ⟨a, rfl, hb9, hc1⟩ := hR.arr (kd_e g2) (by decide)
  have hb9 := hb9 (of_decide_eq_true g3)
  obtain ⟨s1, n1, h4⟩ := cpk_e g4
  obtain ⟨d1, -, h5⟩ := cpk_e g5
  have hA := (o.k.arr (c := 201) (by decide) (by decide)).1
  obtain ⟨-, k0, hk0, cm0, hkk0⟩ := hA (zN h (a0 + 1)) (zA h 201 (zK h (a0 + 1)).2 (a0 + 1))
  obtain ⟨-, k1, hk1, cm1, hkk1⟩ := hA (zN h (a + 1)) (zA h 201 (zK h (a + 1)).2 (a + 1))
  simp only [Bool.and_eq_true] at hb
  have b1 := Nat.le_of_ble_eq_true hb.1
  have b2 := Nat.le_of_ble_eq_true hb.2
  have b3 := Nat.le_trans (zcats st) (Nat.mul_le_mul_left 2 (Nat.le_of_ble_eq_true hr))
  intro T hT X9
  obtain ⟨vm', X', step⟩ := X9.arraycopy o.x o.ow (o.w _ hlink) (o.w _ hnat) (o.w _ hstat) (o.w _ hini) (src := a0) (dst := a) (cs := arrV (zGa G 201) (zN h (a0 + 1)) (zA h 201 (zK h (a0 + 1)).2 (a0 + 1))) (cd := arrV (zGa G 201) (zN h (a + 1)) (zA h 201 (zK h (a + 1)).2 (a + 1))) (srcPos := s) (destPos := d) (n := n) (by rw [hT]; exact hc0) (by rw [hT]; exact hc1)
    (fun _ h => by cases h) (fun _ h => by cases h) (fun h => by cases h) (fun h => by cases h) hk0 hk1 hkk0 hkk1 rfl s1 d1 n1
    (by rw [nn_int s1, nn_int n1, arrV_size]; have : ix s + ix n ≤ zN h (a0 + 1) := h4; simp only [ix] at this; omega)
    (by rw [nn_int d1, nn_int n1, arrV_size]; have : ix d + ix n ≤ zN h (a + 1) := h5; simp only [ix] at this; omega)
    (fun vm₁ _ i hi => by
      have e : (arrV (zGa G 201) (zN h (a0 + 1)) (zA h 201 (zK h (a0 + 1)).2 (a0 + 1))).slots.getD (s.toNatClampNeg + i) .null = .int (zI h 201 (zK h (a0 + 1)).2 (s.toNatClampNeg + i) (a0 + 1)) := by
        rw [Array.getD_eq_getD_getElem?, arrV_read _ _ (by have : ix s + ix n ≤ zN h (a0 + 1) := h4; simp only [ix] at this; omega), zA_i]
        rfl
      rw [e]
      exact ⟨rfl, trivial⟩)
    (g := F0 (Xm X) pc ls (.int n :: .int d :: .ref a :: .int s :: .ref a0 :: st)) rfl (by exact hL.1) (rest := st) rfl (by rw [o.b]; exact hd) (by rw [o.r]; exact b1) (by
      rw [o.r]
      show 2 * 0 + _ + _ ≤ lo
      have hw9 : nativeFrameWords "java/lang/System" "arraycopy" 5 ≤ 16 := by decide
      omega)
  rw [copiedV _ _ _ _ h4] at X' step
  have R9 : Rep G (cpI h (a0 + 1) (a + 1) (ix s) (ix d) (ix n)) (H.setIfInBounds a (arrV (zGa G 201) (zN h (a + 1)) (va_cpy (zA h 201 (zK h (a0 + 1)).2 (a0 + 1)) (zA h 201 (zK h (a + 1)).2 (a + 1)) s.toNatClampNeg d.toNatClampNeg n.toNatClampNeg))) :=
    arr_put hR (kd_e g2) (by decide) hb9 hc1 rfl rfl rfl rfl (zV_pu (a := a + 1) (fun c r k x hx => if_neg (fun q => hx q.2.2.1)) (fun _ _ _ _ _ => rfl) (fun _ _ _ _ _ => rfl) (fun _ _ _ _ _ => rfl)) (by
      rw [zA_i, zA_i, zA_i]
      funext j
      show va_cpy _ _ _ _ _ j = Value.int (if _ then _ else _)
      unfold va_cpy
      simp only [ix, true_and]
      split <;> rfl)
  obtain ⟨t, a1, b9⟩ := kk _ rfl hw _ _ ls R9 ⟨fun q hq => by
        rcases List.mem_append.mp hq with z | z
        · exact hl.1 q z
        · obtain ⟨y, -, hy⟩ := List.mem_map.mp z
          rw [← hy]; exact hb9, by rw [Array.size_setIfInBounds]; exact hl.2⟩ hL _ (by rw [← hT]; rfl) X'
  exact ⟨t, step t a1, b9⟩
theorem zh_ldcM {index cm : Nat} (o : zOk G X cc own nL fr lo mc ms) (hs : cm = zGm G + 1) (hlink : Cond.classLink own index "[Ljava/lang/Object;" ∈ lw_all) (hd : decode cc pc = .ok (.ldc index, 2)) (kk : zQ (EH h) G X cl sl (pc + 2) L (zrf cm :: st)) : zQ (EH h) G X cl sl pc L st := fun h1 hI hw => by
  intro H locs ls hR hl hL
  subst hs
  exact va_ldcM o.x o.b o.ow (o.w _ hlink) o.k.2.2.2.2.2.2.2.2.2.2.1 hd (kk h1 hI hw H locs ls hR hl hL)
theorem zh_getC {index p cm : Nat} (o : zOk G X cc own nL fr lo mc ms) (hs : cm = zGm G + 1) (g : kd h p 205 = true) (hlink : Cond.methodLink own index ⟨"java/lang/Object", "getClass", "()Ljava/lang/Class;"⟩ ∈ lw_all) (hsel : Cond.selects "[Ljava/lang/Object;" ⟨"java/lang/Object", "getClass", "()Ljava/lang/Class;"⟩ ⟨"java/lang/Object", "getClass", "()Ljava/lang/Class;"⟩ ∈ lw_all)
    (hinst : Cond.instanceMethod ⟨"java/lang/Object", "getClass", "()Ljava/lang/Class;"⟩ ∈ lw_all) (hnat : Cond.native ⟨"java/lang/Object", "getClass", "()Ljava/lang/Class;"⟩ ∈ lw_all) (hd : decode cc pc = .ok (.invokevirtual index, 3)) (hb : (Nat.ble 1 fr && Nat.ble (8 + 14) lo) = true) (hr : Nat.ble st.length 4 = true)
    (kk : zQ (EH h) G X cl sl (pc + 3) L (zrf cm :: st)) : zQ (EH h) G X cl sl pc L (zrf p :: st) := fun h1 hI hw => by
  have e0 : h = h1 := (hI : h1 = h).symm
  subst e0
  intro H locs ls hR hl hL
  subst hs
  obtain ⟨a, rfl, -, hc⟩ := hR.arr (kd_e g) (by decide)
  simp only [Bool.and_eq_true] at hb
  have b1 := Nat.le_of_ble_eq_true hb.1
  have b2 := Nat.le_of_ble_eq_true hb.2
  have b3 := Nat.le_trans (zcats st) (Nat.mul_le_mul_left 2 (Nat.le_of_ble_eq_true hr))
  exact va_getC o.x o.b hL.1.symm o.ow (o.w _ hlink) (va_Dc.use o.k.2.2.2.2.2.2.2.2.2.1) (o.w _ hsel) (o.w _ hinst) (o.w _ hnat) o.k.2.2.2.2.2.2.2.2.2.2.1 ⟨_, hc, rfl, va_nmO (o.k.arr (c := 205) (by decide) (by decide)).2 (by decide)⟩ (by rw [o.r]; exact b1) (by rw [o.r]; show _ ≤ lo; omega) hd (kk h rfl hw H locs ls hR hl hL)
theorem zh_copyR {p q : Nat} {s d n : Int32} {index : Nat} (o : zOk G X cc own nL fr lo mc ms) (hlink : Cond.methodLink own index arraycopyName ∈ lw_all) (hnat : Cond.native arraycopyName ∈ lw_all) (hstat : Cond.static arraycopyName ∈ lw_all) (hini : Cond.initialized "java/lang/System" ∈ lw_all)
    (g1 : kd h p 205 = true) (g2 : kd h q 205 = true) (g3 : wr h q = true) (g4 : cpk s n (zN h p) = true) (g5 : cpk d n (zN h q) = true) (g6 : npq p q = true) (g7 : okc h p (ix s + ix n) = true) (hd : decode cc pc = .ok (.invokestatic index, 3)) (e : h9 = cpR h p q (ix s) (ix d) (ix n)) (hb : (Nat.ble 1 fr && Nat.ble (8 + 16 + 11) lo) = true) (hr : Nat.ble st.length 4 = true)
    (kk : zQ (EH h9) G X cl sl (pc + 3) L st) : zQ (EH h) G X cl sl pc L (.int n :: .int d :: zrf q :: .int s :: zrf p :: st) := fun h1 hI hw => by
  have e0 : h = h1 := (hI : h1 = h).symm
  subst e0
  subst e
  intro H locs ls hR hl hL
  obtain ⟨a0, rfl, -, hc0⟩ := hR.arr (kd_e g1) (by decide)
  obtain ⟨a, rfl, hb9, hc1⟩ := hR.arr (kd_e g2) (by decide)
  have hb9 := hb9 (of_decide_eq_true g3)
  obtain ⟨s1, n1, h4⟩ := cpk_e g4
  obtain ⟨d1, -, h5⟩ := cpk_e g5
  obtain ⟨hA, kA9, comp9, r1, r2, r3, -⟩ := o.k.arr (c := 205) (by decide) (by decide)
  obtain ⟨-, k0, hk0, cm0, hkk0⟩ := hA (zN h (a0 + 1)) (zA h 205 (zK h (a0 + 1)).2 (a0 + 1))
  obtain ⟨-, k1, hk1, cm1, hkk1⟩ := hA (zN h (a + 1)) (zA h 205 (zK h (a + 1)).2 (a + 1))
  simp only [Bool.and_eq_true] at hb
  have b1 := Nat.le_of_ble_eq_true hb.1
  have b2 := Nat.le_of_ble_eq_true hb.2
  have b3 := Nat.le_trans (zcats st) (Nat.mul_le_mul_left 2 (Nat.le_of_ble_eq_true hr))
  intro T hT X9
  obtain ⟨vm', X', step⟩ := X9.arraycopy o.x o.ow (o.w _ hlink) (o.w _ hnat) (o.w _ hstat) (o.w _ hini) (src := a0) (dst := a) (cs := arrV (zGa G 205) (zN h (a0 + 1)) (zA h 205 (zK h (a0 + 1)).2 (a0 + 1))) (cd := arrV (zGa G 205) (zN h (a + 1)) (zA h 205 (zK h (a + 1)).2 (a + 1))) (srcPos := s) (destPos := d) (n := n) (by rw [hT]; exact hc0) (by rw [hT]; exact hc1)
    (fun _ h => by cases h) (fun _ h => by cases h) (fun h => by cases h) (fun h => by cases h) hk0 hk1 hkk0 hkk1 rfl s1 d1 n1
    (by rw [nn_int s1, nn_int n1, arrV_size]; have : ix s + ix n ≤ zN h (a0 + 1) := h4; simp only [ix] at this; omega)
    (by rw [nn_int d1, nn_int n1, arrV_size]; have : ix d + ix n ≤ zN h (a + 1) := h5; simp only [ix] at this; omega)
    (fun vm₁ hal i hi => by
      have e : (arrV (zGa G 205) (zN h (a0 + 1)) (zA h 205 (zK h (a0 + 1)).2 (a0 + 1))).slots.getD (s.toNatClampNeg + i) .null = zrf (zR h 205 (zK h (a0 + 1)).2 (s.toNatClampNeg + i) (a0 + 1)) := by
        rw [Array.getD_eq_getD_getElem?, arrV_read _ _ (by have : ix s + ix n ≤ zN h (a0 + 1) := h4; simp only [ix] at this; omega), zA_o]
        rfl
      rw [e]
      have hi9 : s.toNatClampNeg + i < ix s + ix n := by simp only [ix]; omega
      rcases oka_e (okc_e g7 hi9) with z | z
      · rw [z]; exact ⟨rfl, trivial⟩
      · obtain ⟨q1, q2, q3⟩ := zcs_ok _ z
        generalize zR h 205 (zK h (a0 + 1)).2 (s.toNatClampNeg + i) (a0 + 1) = y at z q1 q2 q3 ⊢
        obtain ⟨y, rfl, -, cellV, g1, g2, g3, -⟩ := hR.obj (p := y) (c := (zK h y).1) (r := (zK h y).2) rfl q2 q3
        have hcls := (o.k.1.1 _ _ (zq_at q3)).2
        obtain ⟨c0, t1, f1, f2, f3⟩ := Cond.castable_spec (va_Nw.use (A := Xa X) rfl (o.nest q1 rfl))
        cases hcls.1.symm.trans f1
        cases r3.symm.trans f2
        obtain ⟨kC, hkC, -⟩ := hcls.2
        cases hk1.symm.trans r1
        cases hkk1.symm.trans r2
        obtain ⟨kE, hkE, -⟩ := Vm.findClass_spec r3
        obtain ⟨kC', hkC', -⟩ := hal.2.2 _ _ hkC
        obtain ⟨kE', hkE', -⟩ := hal.2.2 _ _ hkE
        refine ⟨rfl, cellV, (show T.heap[y]? = some cellV by rw [hT]; exact g1), (fun q h => by rw [g3] at h; cases h), ⟨kC', by rw [g2]; exact hkC'⟩, ?_, ?_⟩
        · exact ⟨kE', hkE'⟩
        · show vm₁.assignable _ _ = true
          rw [hal.assignable, g2]
          exact f3)
    (g := F0 (Xm X) pc ls (.int n :: .int d :: .ref a :: .int s :: .ref a0 :: st)) rfl (by exact hL.1) (rest := st) rfl (by rw [o.b]; exact hd) (by rw [o.r]; exact b1) (by
      rw [o.r]
      show 2 * 0 + _ + _ ≤ lo
      have hw9 : nativeFrameWords "java/lang/System" "arraycopy" 5 ≤ 16 := by decide
      omega)
  rw [copiedV _ _ _ _ h4] at X' step
  have R9 : Rep G (cpR h (a0 + 1) (a + 1) (ix s) (ix d) (ix n)) (H.setIfInBounds a (arrV (zGa G 205) (zN h (a + 1)) (va_cpy (zA h 205 (zK h (a0 + 1)).2 (a0 + 1)) (zA h 205 (zK h (a + 1)).2 (a + 1)) s.toNatClampNeg d.toNatClampNeg n.toNatClampNeg))) :=
    arr_put hR (kd_e g2) (by decide) hb9 hc1 rfl rfl rfl rfl (zV_pu (a := a + 1) (fun _ _ _ _ _ => rfl) (fun c r k x hx => if_neg (fun q => hx q.2.2.1)) (fun _ _ _ _ _ => rfl) (fun _ _ _ _ _ => rfl)) (by
      rw [zA_o, zA_o, zA_o]
      funext j
      show va_cpy _ _ _ _ _ j = zrf (if _ then _ else _)
      unfold va_cpy
      simp only [ix, true_and]
      split <;> rfl)
  obtain ⟨t, a1, b9⟩ := kk _ rfl hw _ _ ls R9 ⟨fun q hq => by
        rcases List.mem_append.mp hq with z | z
        · exact hl.1 q z
        · obtain ⟨y, -, hy⟩ := List.mem_map.mp z
          rw [← hy]; exact hb9, by rw [Array.size_setIfInBounds]; exact hl.2⟩ hL _ (by rw [← hT]; rfl) X'
  exact ⟨t, step t a1, b9⟩
def zJf (G : zG) (y : MethodName) (cc : ByteArray) (maxL : Nat) (ret : Option FieldType) (fr mc ms : Nat) (args : List Value) (h : zH) (V : UInt32) (h9 : zH) : Prop := zCo G y cc maxL ret fr mc ms args h (zPf fun x h' => x = V ∧ h' = h9) zNX
theorem zh_retf (o : zOk G X cc own nL fr lo mc ms) {v V : UInt32} (f : zEnd G X (zPf fun x h' => x = V ∧ h' = h9) mc ms (some .float)) (hd : decode cc pc = .ok (.freturn, 1)) (hc : cl ≤ mc) (hs : sl ≤ ms) (e : (h, v) = (h9, V)) : zQ (EH h) G X cl sl pc L [.float v] := fun x hI0 hw =>
  zs_retf o f hd hc hs ⟨(Prod.mk.inj e).2, by rw [← (Prod.mk.inj e).1]; exact hI0⟩
theorem zh_D (o : zOk G X cc "Reorderium" nL fr lo mc ms) {p fr' mc' ms' x : Nat} {V : Int32} {rest : List Value} (g : kd h p 8 = true) (hM : zJi G yX10_isOlderThan cX10_isOlderThan 2 (some .boolean) fr' mc' ms' [zrf p, zrf x] h V h9) (hd : decode cc pc = .ok (.invokevirtual 297, 3))
    (hb : (Nat.ble (fr' + 1) fr && Nat.ble (8 + (2 + 11) + 64 * fr') lo) = true) (hrest : Nat.ble rest.length 4 = true) (hcl : cl + mc' ≤ mc) (hsl : sl + ms' ≤ ms) (kk : zQ (EH h9) G X (cl + mc') (sl + ms') (pc + 3) L (.int V :: rest)) : zQ (EH h) G X cl sl pc L (zrf x :: zrf p :: rest) := fun h1 hI hw => by
  have e0 : h = h1 := (hI : h1 = h).symm
  subst e0
  exact zc_D o (kd_e g) hM hd hb hrest hcl hsl (fun v h' hv hw' => by rw [hv.1]; exact kk h' hv.2 hw')
theorem zh_Vr5 {ret : Option FieldType} {c p m index fr' mc' ms' maxL : Nat} {y : MethodName} {bytes : ByteArray} {As rest st0 : List Value} {V : Nat} (o : zOk G X cc own nL fr lo mc ms) (g : kd h p c = true) (lk : zLV own index c y bytes maxL ret m) (hM : zJr G y bytes maxL ret fr' mc' ms' (zrf p :: As) h V h9) (hd : decode cc pc = .ok (.invokevirtual index, 3)) (hst : st0 = As.reverse ++ zrf p :: rest) (hn : As.length = m)
    (hb : (Nat.ble (fr' + 1) fr && Nat.ble (8 + (maxL + 11) + 64 * fr') lo) = true) (hrest : (rest.map fun v => v.category).sum ≤ 8) (hcl : cl + mc' ≤ mc) (hsl : sl + ms' ≤ ms) (kk : zQ (EH h9) G X (cl + mc') (sl + ms') (pc + 3) L (zrf V :: rest)) : zQ (EH h) G X cl sl pc L st0 := fun h1 hI0 hw => by
  have e0 : h = h1 := (hI0 : h1 = h).symm
  subst e0
  exact zc_V5 o (kd_e g) lk hM hd hst hn hb hrest hcl hsl (fun _ _ h _ => h.elim) (fun v h' hv hw' => by obtain ⟨x, rfl, hp⟩ := hv; rw [hp.1]; exact kk h' hp.2 hw')
end ZM

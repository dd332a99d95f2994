/-! NEW CELLS, CASTS, STATICS, ENDS, THROWS -/
set_option maxRecDepth 100000
theorem zasg (vm : Vm) (c : ClassId) : vm.assignable c c = true := by
  show vm.assignableAux (255 + 1) c c = true
  rw [Vm.assignableAux]
  simp only [BEq.rfl, Bool.true_or]
section MO
variable {G : zG} {X : zX} {cc : ByteArray} {own : String} {nL fr lo mc ms cl sl pc : Nat} {h : zH} {L : List (Option Value)} {st : List Value}
theorem zs_ireturn (o : zOk G X cc own nL fr lo mc ms) {Post : Option Value → zH → Prop} {ty : FieldType} {v : Int32} (f : zEnd G X Post mc ms (some ty)) (hn : narrow ty (.int v) = .int v) (hd : decode cc pc = .ok (.ireturn, 1)) (hc : cl ≤ mc) (hs : sl ≤ ms) (hp : Post (some (.int v)) h) : zW G X h cl sl pc L [.int v] :=
  fun H locs ls hR hl hL => W.widen hc hs (f.1 H locs _ (W.zret o.x o.b f.2 hn (fun t ht hW => ⟨⟨_, h, rfl, hp, by rw [ht]; exact hR⟩, by rw [ht]; exact hl.2⟩) hl.1 hd o.nl))
theorem zs_reti (o : zOk G X cc own nL fr lo mc ms) {P : Int32 → zH → Prop} {ty : FieldType} {v : Int32} (f : zEnd G X (zPi P) mc ms (some ty)) (hd : decode cc pc = .ok (.ireturn, 1)) (hn : narrow ty (.int v) = .int v) (hc : cl ≤ mc) (hs : sl ≤ ms) (hp : P v h) : zW G X h cl sl pc L [.int v] :=
  zs_ireturn o f hn hd hc hs ⟨v, rfl, hp⟩
theorem zs_retv (o : zOk G X cc own nL fr lo mc ms) {P : zH → Prop} (f : zEnd G X (zPv P) mc ms none) (hd : decode cc pc = .ok (.return_, 1)) (hc : cl ≤ mc) (hs : sl ≤ ms) (hp : P h) : zW G X h cl sl pc L [] :=
  fun H locs ls hR hl hL => W.widen hc hs (f.1 H locs _ (W.vret o.x o.b f.2 (fun t ht hW => ⟨⟨_, h, rfl, ⟨rfl, hp⟩, by rw [ht]; exact hR⟩, by rw [ht]; exact hl.2⟩) hl.1 hd o.nl))
theorem zs_retl (o : zOk G X cc own nL fr lo mc ms) {P : Int64 → zH → Prop} {v : Int64} (f : zEnd G X (zPl P) mc ms (some .long)) (hd : decode cc pc = .ok (.lreturn, 1)) (hc : cl ≤ mc) (hs : sl ≤ ms) (hp : P v h) : zW G X h cl sl pc L [.long v] :=
  fun H locs ls hR hl hL => W.widen hc hs (f.1 H locs _ (W.lret o.x o.b f.2 (fun t ht hW => ⟨⟨_, h, rfl, ⟨v, rfl, hp⟩, by rw [ht]; exact hR⟩, by rw [ht]; exact hl.2⟩) hl.1 hd o.nl))
theorem zs_retf (o : zOk G X cc own nL fr lo mc ms) {P : UInt32 → zH → Prop} {v : UInt32} (f : zEnd G X (zPf P) mc ms (some .float)) (hd : decode cc pc = .ok (.freturn, 1)) (hc : cl ≤ mc) (hs : sl ≤ ms) (hp : P v h) : zW G X h cl sl pc L [.float v] :=
  fun H locs ls hR hl hL => W.widen hc hs (f.1 H locs _ (W.fret o.x o.b f.2 (fun t ht hW => ⟨⟨_, h, rfl, ⟨v, rfl, hp⟩, by rw [ht]; exact hR⟩, by rw [ht]; exact hl.2⟩) hl.1 hd o.nl))
theorem zs_retr (o : zOk G X cc own nL fr lo mc ms) {P : Nat → zH → Prop} {v : Nat} {rt : FieldType} (f : zEnd G X (zPr P) mc ms (some rt)) (hd : decode cc pc = .ok (.areturn, 1)) (hrt : rt.isReference = true) (hc : cl ≤ mc) (hs : sl ≤ ms) (hp : P v h) : zW G X h cl sl pc L [zrf v] :=
  fun H locs ls hR hl hL => W.widen hc hs (f.1 H locs _ (W.aret o.x o.b f.2 (by cases rt <;> simp [FieldType.isReference] at hrt ⊢) (by cases v <;> simp [zrf]) (fun t ht hW => ⟨⟨_, h, rfl, ⟨v, rfl, hp⟩, by rw [ht]; exact hR⟩, by rw [ht]; exact hl.2⟩) hl.1 hd o.nl))
/-! new cells -/
theorem nw_T {c r n : Nat} : zT (nw h c r n) = zT h + 1 := rfl
theorem n4_at {α : Type} {g : Nat → Nat → Nat → Nat → α} {c r f p : Nat} {x : α} : n4 g c r p x c r f p = x := by
  unfold n4; rw [if_pos ⟨rfl, rfl, rfl⟩]
theorem zs_new (o : zOk G X cc own nL fr lo mc ms) {index c r : Nat} (lk : zNL own index c) (hd : decode cc pc = .ok (.new index, 3)) (hc : cl + 1 ≤ mc) (hs : sl + (zq c).2.2 ≤ ms) (kk : zW G X (nw h c r 0) (cl + 1) (sl + (zq c).2.2) (pc + 3) L (zrf (zT h + 1) :: st)) : zW G X h cl sl pc L st := by
  intro H locs ls hR hl hL
  obtain ⟨h0, h1, l1, l2, l3⟩ := lk
  have hKn := o.k.1.1 c _ (zq_at h1)
  have hct := zct c _ (zq_at h1)
  refine W.newcK o.x o.b o.ow (o.w _ l1) (o.w _ l2) (o.w _ l3) rfl hd (by rw [o.r]; exact hc) (by rw [o.r]; exact hs) hKn.2.1 rfl fun H1 kC hkC e1 z1 o1 => ?_
  have e : zrf (zT h + 1) = .ref H.size := by rw [hR.1]; rfl
  have k1 := kk H1 locs ls (hR.new (c := c) (r := r) (n := 0) z1 o1 (Or.inl ⟨_, zq_at h1, (u_born (zty c) o.w hct.1 hKn hkC e1 hct.2.1).to (fun k hk => ?_)⟩)) ⟨hl.1, by rw [z1]; exact Nat.le_succ_of_le hl.2⟩ hL
  · rw [e] at k1; exact k1
  · rw [zdef c h1 k hk]
    unfold zV
    rw [hR.1]
    show _ = if zfk c k = 0 then Value.int (n4 (zI h) c r (zT h + 1) 0 c r k (zT h + 1)) else if zfk c k = 1 then zrf (n4 (zR h) c r (zT h + 1) 0 c r k (zT h + 1)) else .long (n4 (zL h) c r (zT h + 1) 0 c r k (zT h + 1))
    rw [n4_at, n4_at, n4_at]
    rfl
theorem zs_newarr (o : zOk G X cc own nL fr lo mc ms) {c r N : Nat} {n : Int32} {atype : ArrayType} (hc2 : c = 201 ∨ c = 202 ∨ c = 203 ∨ c = 204) (ha : newarray.typeOf atype = zaty c) (lk : Cond.arrayClass (zaty c) ∈ lw_all) (hn : ¬ n < 0) (hN : n.toNatClampNeg = N) (hb : N ≤ 60000000) (hd : decode cc pc = .ok (.newarray atype, 2)) (hc : cl + 1 ≤ mc) (hs : sl + N ≤ ms) (kk : zW G X (nw h c r N) (cl + 1) (sl + N) (pc + 2) L (zrf (zT h + 1) :: st)) : zW G X h cl sl pc L (.int n :: st) := by
  intro H locs ls hR hl hL
  refine va_newaK (N := N) o.x o.b (by rw [ha]; exact o.w _ lk) rfl hd rfl hn hN (by rw [ha]; rcases hc2 with rfl | rfl | rfl | rfl <;> simp only [zaty, componentBytes] <;> omega) (by rw [o.r]; exact hc) (by rw [o.r]; exact hs) rfl fun H1 cA e1 z1 o1 hAr hNm => ?_
  rw [ha] at e1 hNm
  have hcA : cA = zGa G c := by
    have h9 := (o.k.arr (c := c) (by omega) (by omega)).2
    rcases hc2 with rfl | rfl | rfl | rfl <;> exact Option.some.inj (hNm.symm.trans h9)
  have e : zrf (zT h + 1) = .ref H.size := by rw [hR.1]; rfl
  have k1 := kk H1 locs ls (hR.new (c := c) (r := r) (n := N) z1 o1 (Or.inr ⟨by omega, ?_⟩)) ⟨hl.1, by rw [z1]; exact Nat.le_succ_of_le hl.2⟩ hL
  · rw [e] at k1; exact k1
  · rw [e1, hcA]
    congr 1
    congr 1
    funext j
    unfold zA
    rw [hR.1]
    rcases hc2 with rfl | rfl | rfl | rfl
    · show _ = Value.int (n4 (zI h) 201 r (zT h + 1) 0 201 r j (zT h + 1)); rw [n4_at]; rfl
    · show _ = Value.int (n4 (zI h) 202 r (zT h + 1) 0 202 r j (zT h + 1)); rw [n4_at]; rfl
    · show _ = Value.long (n4 (zL h) 203 r (zT h + 1) 0 203 r j (zT h + 1)); rw [n4_at]; rfl
    · show _ = Value.double (n4 (zD h) 204 r (zT h + 1) 0 204 r j (zT h + 1)); rw [n4_at]; rfl
theorem zs_newO (o : zOk G X cc own nL fr lo mc ms) {index r N : Nat} {n : Int32} (lk : Cond.classLink own index "java/lang/Object" ∈ lw_all) (hn : ¬ n < 0) (hN : n.toNatClampNeg = N) (hb : N ≤ 60000000) (hd : decode cc pc = .ok (.anewarray index, 3)) (hc : cl + 1 ≤ mc) (hs : sl + N ≤ ms) (kk : zW G X (nw h 205 r N) (cl + 1) (sl + N) (pc + 3) L (zrf (zT h + 1) :: st)) : zW G X h cl sl pc L (.int n :: st) := by
  intro H locs ls hR hl hL
  subst hN
  refine W.anew o.x o.b o.ow (o.w _ lk) (va_AO.use o.k.2.2.2.2.2.2.2.2.1) rfl hd rfl hn (by omega) (by rw [o.r]; exact hc) (by rw [o.r]; exact hs) fun cA kA comp f1 f2 f3 f4 => ?_
  generalize hH1 : H.push ({ cls := cA, slots := Array.replicate n.toNatClampNeg .null, vm := .none } : Cell) = H1
  have z1 : H1.size = H.size + 1 := by rw [← hH1, Array.size_push]
  have e1 : H1[H.size]? = some (arrV cA n.toNatClampNeg (fun _ => .null)) := by rw [← hH1, Array.getElem?_push_size, ← arrV_new]
  have o1 : ∀ q : Nat, q < H.size → H1[q]? = H[q]? := fun q hq => by rw [← hH1, Array.getElem?_push, if_neg (Nat.ne_of_lt hq)]
  have hcA : cA = zGa G 205 := by
    obtain ⟨kA', comp', g1, g2, g3, g4⟩ := (o.k.arr (c := 205) (by decide) (by decide)).2
    exact Option.some.inj (f1.symm.trans g4)
  have e : zrf (zT h + 1) = .ref H.size := by rw [hR.1]; rfl
  have k1 := kk H1 locs ls (hR.new (c := 205) (r := r) (n := n.toNatClampNeg) z1 o1 (Or.inr ⟨by decide, ?_⟩)) ⟨hl.1, by rw [z1]; exact Nat.le_succ_of_le hl.2⟩ hL
  · rw [e] at k1; exact k1
  · rw [e1, hcA]
    congr 1
    congr 1
    funext j
    unfold zA
    rw [hR.1]
    show _ = zrf (n4 (zR h) 205 r (zT h + 1) 0 205 r j (zT h + 1)); rw [n4_at]; rfl
theorem zs_newII (o : zOk G X cc own nL fr lo mc ms) {index r N : Nat} {n : Int32} (lk : Cond.classLink own index "[I" ∈ lw_all) (lk2 : Cond.arrayOver (.array .int) ∈ lw_all) (hn : ¬ n < 0) (hN : n.toNatClampNeg = N) (hb : N ≤ 60000000) (hd : decode cc pc = .ok (.anewarray index, 3)) (hc : cl + 1 ≤ mc) (hs : sl + N ≤ ms) (kk : zW G X (nw h 206 r N) (cl + 1) (sl + N) (pc + 3) L (zrf (zT h + 1) :: st)) : zW G X h cl sl pc L (.int n :: st) := by
  intro H locs ls hR hl hL
  subst hN
  refine W.anewA (t := .int) o.x o.b o.ow (o.w _ lk) (o.w _ lk2) rfl hd rfl hn (by omega) (by rw [o.r]; exact hc) (by rw [o.r]; exact hs) fun cA kA comp f1 f2 f3 f4 => ?_
  generalize hH1 : H.push ({ cls := cA, slots := Array.replicate n.toNatClampNeg .null, vm := .none } : Cell) = H1
  have z1 : H1.size = H.size + 1 := by rw [← hH1, Array.size_push]
  have e1 : H1[H.size]? = some (arrV cA n.toNatClampNeg (fun _ => .null)) := by rw [← hH1, Array.getElem?_push_size, ← arrV_new]
  have o1 : ∀ q : Nat, q < H.size → H1[q]? = H[q]? := fun q hq => by rw [← hH1, Array.getElem?_push, if_neg (Nat.ne_of_lt hq)]
  have hcA : cA = zGa G 206 := by
    have h9 : (Xs X).vm.findClass ("[" ++ (FieldType.array .int).toString) = some (zGa G 206) := (o.k.arr (c := 206) (by decide) (by decide)).2
    exact Option.some.inj (f1.symm.trans h9)
  have e : zrf (zT h + 1) = .ref H.size := by rw [hR.1]; rfl
  have k1 := kk H1 locs ls (hR.new (c := 206) (r := r) (n := n.toNatClampNeg) z1 o1 (Or.inr ⟨by decide, ?_⟩)) ⟨hl.1, by rw [z1]; exact Nat.le_succ_of_le hl.2⟩ hL
  · rw [e] at k1; exact k1
  · rw [e1, hcA]
    congr 1
    congr 1
    funext j
    unfold zA
    rw [hR.1]
    show _ = zrf (n4 (zR h) 206 r (zT h + 1) 0 206 r j (zT h + 1)); rw [n4_at]; rfl
/-! stores of references -/
theorem zA_wR {c r j p : Nat} {x : Nat} (h2 : c = 205 ∨ c = 206 ∨ c = 208) (i : Nat) : zA (sR h c r j p x) c r p i = updV (zA h c r p) j (zrf x) i := by
  unfold updV zA
  rw [if_neg (by omega), if_neg (by omega), if_pos h2]
  by_cases e : i = j
  · subst e
    rw [if_pos rfl]
    show zrf (p4 (zR h) c r i p x c r i p) = _
    rw [p4_at]
  · rw [if_neg e, if_neg (by omega), if_neg (by omega), if_pos h2]
    show zrf (p4 (zR h) c r j p x c r i p) = _
    rw [p4_nf e]
theorem zs_aastoreN (o : zOk G X cc own nL fr lo mc ms) {r p : Nat} {i : Int32} (hd : decode cc pc = .ok (.aastore, 1)) (hk : zK h p = (205, r)) (hr : r ≠ 0) (hi : vp_in i (zN h p)) (kk : zW G X (sR h 205 r i.toNatClampNeg p 0) cl sl (pc + 1) L st) : zW G X h cl sl pc L (zrf 0 :: .int i :: zrf p :: st) := by
  intro H locs ls hR hl hL
  obtain ⟨a, rfl, hb, hc⟩ := hR.arr hk (by decide)
  exact va_WaastN (C := "java/lang/Object") o.x o.b hc ((o.k.arr (c := 205) (by decide) (by decide)).1 _ _) (fun q => by cases q) (by rw [arrV_size]; exact hi) rfl rfl hd fun H' g1 g2 g3 =>
    kk H' _ ls (zarr_put hR rfl hk (by decide) (hb hr) hc rfl rfl rfl (fun p' hp c' r' k' => zV_sR p' hp c' r' k') (zA_wR (x := 0) (Or.inl rfl)) g1 g2 g3) (zloc hl g2 (hb hr)) hL
theorem zs_aastoreO (o : zOk G X cc own nL fr lo mc ms) {r p c' r' x : Nat} {i : Int32} (hca : Cond.castable (zq c').1 "java/lang/Object" ∈ lw_tbl) (h0 : c' ≠ 0) (h1 : c' < 21) (hd : decode cc pc = .ok (.aastore, 1)) (hk : zK h p = (205, r)) (hr : r ≠ 0) (hi : vp_in i (zN h p)) (hx : zK h x = (c', r')) (kk : zW G X (sR h 205 r i.toNatClampNeg p x) cl sl (pc + 1) L st) : zW G X h cl sl pc L (zrf x :: .int i :: zrf p :: st) := by
  intro H locs ls hR hl hL
  obtain ⟨a, rfl, hb, hc⟩ := hR.arr hk (by decide)
  obtain ⟨b, rfl, -, cellV, g1, g2, g3, -⟩ := hR.obj hx h0 h1
  have hcls := (o.k.1.1 c' _ (zq_at h1)).2
  obtain ⟨kA, comp, k1, k2, k3, -⟩ := (o.k.arr (c := 205) (by decide) (by decide)).2
  obtain ⟨kE, hkE, -⟩ := Vm.findClass_spec k3
  obtain ⟨c0, t1, f1, f2, f3⟩ := Cond.castable_spec (va_Nw.use (A := Xa X) rfl (o.nest hca rfl))
  cases hcls.1.symm.trans f1
  cases k3.symm.trans f2
  obtain ⟨kC, hkC, -⟩ := hcls.2
  have hlt : i.toNatClampNeg < zN h (a + 1) := Nat.not_le.mp fun q => hi (Or.inr q)
  exact W.aast o.x o.b hc (fun q h => by cases h) (fun h => by cases h) k1 k2 rfl hkE ⟨fun q => hi (Or.inl q), by rw [arrV_size]; exact hlt⟩ g1 (fun q h => by rw [g3] at h; cases h) (by rw [g2]; exact hkC) (by rw [g2]; exact f3) rfl rfl hd fun H' g1 g2 g3 =>
    kk H' _ ls (zarr_put hR rfl hk (by decide) (hb hr) hc rfl rfl rfl (fun p' hp c' r' k' => zV_sR p' hp c' r' k') (zA_wR (x := b + 1) (Or.inl rfl)) g1 g2 g3) (zloc hl g2 (hb hr)) hL
theorem zs_aastoreI (o : zOk G X cc own nL fr lo mc ms) {r p r' x : Nat} {i : Int32} (hd : decode cc pc = .ok (.aastore, 1)) (hk : zK h p = (206, r)) (hr : r ≠ 0) (hi : vp_in i (zN h p)) (hx : zK h x = (201, r')) (kk : zW G X (sR h 206 r i.toNatClampNeg p x) cl sl (pc + 1) L st) : zW G X h cl sl pc L (zrf x :: .int i :: zrf p :: st) := by
  intro H locs ls hR hl hL
  obtain ⟨a, rfl, hb, hc⟩ := hR.arr hk (by decide)
  obtain ⟨b, rfl, -, hv⟩ := hR.arr hx (by decide)
  obtain ⟨kA, k1, k2⟩ := o.k.2.2.2.2.2.2.2.2.2.2.2.1
  obtain ⟨kE, hkE, -⟩ := Vm.findClass_spec (show (Xs X).vm.findClass ("[" ++ FieldType.int.toString) = some (zGa G 201) from (o.k.arr (c := 201) (by decide) (by decide)).2)
  have hlt : i.toNatClampNeg < zN h (a + 1) := Nat.not_le.mp fun q => hi (Or.inr q)
  exact W.aast o.x o.b hc (fun q h => by cases h) (fun h => by cases h) k1 k2 rfl hkE ⟨fun q => hi (Or.inl q), by rw [arrV_size]; exact hlt⟩ hv (fun q h => by cases h) hkE (zasg _ _) rfl rfl hd fun H' g1 g2 g3 =>
    kk H' _ ls (zarr_put hR rfl hk (by decide) (hb hr) hc rfl rfl rfl (fun p' hp c' r' k' => zV_sR p' hp c' r' k') (zA_wR (x := b + 1) (Or.inr (Or.inl rfl))) g1 g2 g3) (zloc hl g2 (hb hr)) hL
/-! casts, statics, constants -/
theorem zs_cast (o : zOk G X cc own nL fr lo mc ms) {index c r p : Nat} (lk : Cond.classLink own index (zq c).1 ∈ lw_all) (h0 : c ≠ 0) (h1 : c < 21) (hd : decode cc pc = .ok (.checkcast index, 3)) (hk : zK h p = (c, r)) (kk : zW G X h cl sl (pc + 3) L (zrf p :: st)) : zW G X h cl sl pc L (zrf p :: st) := by
  intro H locs ls hR hl hL
  obtain ⟨a, rfl, hrc⟩ := zrecv o hR hk h0 h1
  exact va_castS o.x o.b o.ow (o.w _ lk) (o.k.1.1 c _ (zq_at h1)).2 hrc hd (kk H locs ls hR hl hL)
theorem zs_inst (o : zOk G X cc own nL fr lo mc ms) {index c r p : Nat} (lk : Cond.classLink own index (zq c).1 ∈ lw_all) (h0 : c ≠ 0) (h1 : c < 21) (hd : decode cc pc = .ok (.instanceof index, 3)) (hk : zK h p = (c, r)) (kk : zW G X h cl sl (pc + 3) L (.int 1 :: st)) : zW G X h cl sl pc L (zrf p :: st) := by
  intro H locs ls hR hl hL
  obtain ⟨a, rfl, hrc⟩ := zrecv o hR hk h0 h1
  exact va_instS o.x o.b o.ow (o.w _ lk) (o.k.1.1 c _ (zq_at h1)).2 hrc hd (kk H locs ls hR hl hL)
theorem zs_gets (o : zOk G X cc own nL fr lo mc ms) {index : Nat} {C n d : String} {v : Value} (hz : (C, n, d, v) ∈ zGz G) (lk : Cond.fieldLink own index C n d ∈ lw_all) (hd : decode cc pc = .ok (.getstatic index, 3)) (kk : zW G X h cl sl (pc + 3) L (v :: st)) : zW G X h cl sl pc L st := by
  intro H locs ls hR hl hL
  have hZ := o.k.2.2.2.2.1 _ hz
  have hZ2 : va_Z C n d v (zFr G) (Xs X) (Xs X).heap := hZ.kept (fun a ha _ => o.hp.2 a ha)
  exact va_gets o.x o.b hZ2 ⟨hl.2, fun q _ hq => by have hq : q < zB G := Nat.not_le.mp hq; rw [hR.2.2.1 q hq, o.hp.2 q hq], hl.1⟩ o.ow (o.w _ lk) (fun _ e => e) hd (kk H locs ls hR hl hL)
theorem zs_objInit (o : zOk G X cc own nL fr lo mc ms) {index p : Nat} (hp0 : p ≠ 0) (lk : Cond.methodLink own index Lib.objectInit ∈ lw_all) (lk2 : Cond.instanceMethod Lib.objectInit ∈ lw_all) (lk3 : Cond.code Lib.objectInit ⟨#[0xb1]⟩ 1 none ∈ lw_all) (hd : decode cc pc = .ok (.invokespecial index, 3)) (hb : (Nat.ble 1 fr && Nat.ble (8 + 12) lo) = true) (hr : Nat.ble st.length 4 = true) (kk : zW G X h cl sl (pc + 3) L st) : zW G X h cl sl pc L (zrf p :: st) := by
  intro H locs ls hR hl hL
  obtain ⟨a, rfl⟩ : ∃ a, p = a + 1 := ⟨p - 1, by omega⟩
  simp only [Bool.and_eq_true] at hb
  have e1 := Nat.le_of_ble_eq_true hb.1
  have e2 := Nat.le_of_ble_eq_true hb.2
  refine W.objInit o.x o.b o.ow (o.w _ lk) (o.w _ lk2) (o.w _ lk3) rfl hL.1 rfl hd (by rw [o.r]; exact e1) ?_ (kk H locs ls hR hl hL)
  have e3 := lv_room (m := Xm X) (pc := pc) (ls := ls) (rest := zrf (a + 1) :: st) (Nat.le_trans (zcats st) (Nat.mul_le_mul_left 2 (Nat.le_of_ble_eq_true hr)))
  rw [o.r]
  show _ ≤ lo
  have e4 : 2 * (F0 (Xm X) pc ls (zrf (a + 1) :: st)).monitorRoom + (st.map fun v => v.category).sum ≤ 8 := e3
  omega
theorem zs_mmin (o : zOk G X cc own nL fr lo mc ms) {index : Nat} {x y : Int32} (l1 : Cond.methodLink own index Lib.Math.min.name ∈ lw_all) (l2 : Cond.static Lib.Math.min.name ∈ lw_all) (l3 : Cond.initialized "java/lang/Math" ∈ lw_all) (l4 : Cond.code Lib.Math.min.name Lib.Math.min.code 2 (some .int) ∈ lw_all) (hb : (Nat.ble 1 fr && Nat.ble (8 + 13) lo) = true) (hr : Nat.ble st.length 4 = true) (hc : cl ≤ mc) (hs : sl ≤ ms) (hd : decode cc pc = .ok (.invokestatic index, 3)) (kk : zW G X h cl sl (pc + 3) L (.int (if y < x then y else x) :: st)) : zW G X h cl sl pc L (.int y :: .int x :: st) := by
  intro H locs ls hR hl hL
  simp only [Bool.and_eq_true] at hb
  have e1 := Nat.le_of_ble_eq_true hb.1
  have e2 := Nat.le_of_ble_eq_true hb.2
  have e3 := Nat.le_trans (zcats st) (Nat.mul_le_mul_left 2 (Nat.le_of_ble_eq_true hr))
  exact va_mmin o.x o.b hL.1.symm o.ow (o.w _ l1) (o.w _ l2) (o.w _ l3) (o.w _ l4) (by rw [o.r]; exact e1) (by rw [o.r]; show _ ≤ lo; omega) (by rw [o.r]; exact hc) (by rw [o.r]; exact hs) hd (kk H locs ls hR hl hL)
theorem zs_mmax (o : zOk G X cc own nL fr lo mc ms) {index : Nat} {x y : Int32} (l1 : Cond.methodLink own index Lib.Math.max.name ∈ lw_all) (l2 : Cond.static Lib.Math.max.name ∈ lw_all) (l3 : Cond.initialized "java/lang/Math" ∈ lw_all) (l4 : Cond.code Lib.Math.max.name Lib.Math.max.code 2 (some .int) ∈ lw_all) (hb : (Nat.ble 1 fr && Nat.ble (8 + 13) lo) = true) (hr : Nat.ble st.length 4 = true) (hc : cl ≤ mc) (hs : sl ≤ ms) (hd : decode cc pc = .ok (.invokestatic index, 3)) (kk : zW G X h cl sl (pc + 3) L (.int (if x < y then y else x) :: st)) : zW G X h cl sl pc L (.int y :: .int x :: st) := by
  intro H locs ls hR hl hL
  simp only [Bool.and_eq_true] at hb
  have e1 := Nat.le_of_ble_eq_true hb.1
  have e2 := Nat.le_of_ble_eq_true hb.2
  have e3 := Nat.le_trans (zcats st) (Nat.mul_le_mul_left 2 (Nat.le_of_ble_eq_true hr))
  exact va_mmax o.x o.b hL.1.symm o.ow (o.w _ l1) (o.w _ l2) (o.w _ l3) (o.w _ l4) (by rw [o.r]; exact e1) (by rw [o.r]; show _ ≤ lo; omega) (by rw [o.r]; exact hc) (by rw [o.r]; exact hs) hd (kk H locs ls hR hl hL)
/-! throws -/
theorem zto_rep {H H' : Heap} (hR : Rep G h H) (z : H.size ≤ H'.size) (e : ∀ q : Nat, q < H.size → H'[q]? = H[q]?) : Rep G (zto h H'.size) H' := by
  obtain ⟨w1, w2, w3, w4⟩ := hR
  refine ⟨rfl, by show zB G ≤ H'.size; omega, fun q hq => by rw [e q (by omega)]; exact w3 q hq, fun p => (w4 p).keep rfl rfl (fun q _ hq => e q hq) (fun c r k _ => ⟨rfl, rfl⟩)⟩
theorem zs_throw0 (o : zOk G X cc own nL fr lo mc ms) {Post : Option Value → zH → Prop} {XP : String → zH → Prop} {ret : Option FieldType} (f : zFin G X Post XP mc ms ret) (hl0 : (zGl G).stackTraces = false) {cls : String} {names : List String} {ik ic : Nat} (hcls : Bundle.fit cls = true) (hnames : ∀ n ∈ names, Bundle.fit n = true)
    (hk : Cond.classLink own ik cls ∈ lw_all) (hini : Cond.initialized cls ∈ lw_all) (hat : ∀ w ∈ vx_at0 own ic cls names, w.before (Xa X) (Xs X) = true) (hgood : ∀ w ∈ Cond.classLink own ik cls :: Cond.initialized cls :: vx_at0 own ic cls names, vx_ot w = true)
    (d0 : decode cc pc = .ok (.new ik, 3)) (d3 : decode cc (pc + 3) = .ok (.dup, 1)) (d4 : decode cc (pc + 4) = .ok (.invokespecial ic, 3)) (d7 : decode cc (pc + 7) = .ok (.athrow, 1))
    (hb : (Nat.ble (names.length + 4) fr && Nat.ble (8 + (13 * (names.length + 1) + 42)) lo) = true) (hr : Nat.ble st.length 4 = true) (hc : cl + 1 ≤ mc) (hs : sl + 6 ≤ ms) (hx : ∀ n, zT h ≤ n → XP cls (zto h n)) : zW G X h cl sl pc L st := by
  intro H locs ls hR hl hL
  simp only [Bool.and_eq_true] at hb
  have e1 := Nat.le_of_ble_eq_true hb.1
  have e2 := Nat.le_of_ble_eq_true hb.2
  have e3 := Nat.le_trans (zcats st) (Nat.mul_le_mul_left 2 (Nat.le_of_ble_eq_true hr))
  have hS : va_S (zFr G) (Xs X).heap H locs := ⟨hl.2, fun q _ hq => by have hq : q < zB G := Nat.not_le.mp hq; rw [hR.2.2.1 q hq, o.hp.2 q hq], hl.1⟩
  rw [f.1]
  refine vx_throw0 o.x o.b hl0 o.ow hcls hnames (o.w _ hk) (o.w _ hini) hat hgood (o.k.2.2.2.2.2.2.1.kept (fun a ha _ => o.hp.2 a ha)) (o.k.2.2.2.2.2.2.2.1.kept (fun a ha _ => o.hp.2 a ha)) hS hL.1 d0 d3 d4 d7 (fun x hx => (f.2.2 x hx).elim) (by rw [o.r]; show _ < fr; omega) (by rw [o.r]; show _ ≤ lo; omega) (by rw [o.r]; exact hc) (by rw [o.r]; exact hs) o.nl (fun t hvm hz he => ⟨⟨zto h t.heap.size, hx _ (by rw [← hR.1]; exact hz), zto_rep hR hz he⟩, Nat.le_trans hl.2 hz⟩) hl.1 hc hs
/-- an exception of a callee goes on to the caller -/
theorem zs_out (o : zOk G X cc own nL fr lo mc ms) {Post : Option Value → zH → Prop} {XP : String → zH → Prop} {ret : Option FieldType} (f : zFin G X Post XP mc ms ret) {E : String} (hc : cl ≤ mc) (hs : sl ≤ ms) (hx : XP E h) : zTW G X h cl sl pc L E := by
  intro H locs ls q ce rest hR hl hL hcell hv hcl
  rw [f.1]
  exact vx_out (fun x hx => (f.2.2 x hx).elim) o.nl hcell hv hcl (fun t ht hvm => ⟨⟨h, hx, by rw [ht]; exact hR⟩, by rw [ht]; exact hl.2⟩) hl.1 hc hs
/-- caught by a row of this method's table -/
theorem zs_catch (o : zOk G X cc own nL fr lo mc ms) {E name : String} (pre : List ExceptionTableEntry) (x : ExceptionTableEntry) (suf : List ExceptionTableEntry) (hsplit : (Xc X).exceptionTable.toList = pre ++ x :: suf)
    (hpass : ∀ z ∈ pre, covers z pc = false ∨ (z.catchType ≠ 0 ∧ ∃ nm : String, Cond.classLink own z.catchType nm ∈ lw_all ∧ (E, nm) ∈ znc)) (hx : covers x pc = true) (h0 : x.catchType ≠ 0)
    (hlink : Cond.classLink own x.catchType name ∈ lw_all) (hcast : Cond.castable E name ∈ lw_tbl) (kk : ∀ q, zW G X h cl sl x.handlerPc L [zrf (q + 1)]) : zTW G X h cl sl pc L E := by
  intro H locs ls q ce rest hR hl hL hcell hv hcl
  refine vx_catch o.ow pre x suf hsplit (fun z hz => ?_) hx h0 (o.w _ hlink) (va_Nw.use rfl (o.nest hcast rfl)) hcell hv hcl (kk q H locs ls hR hl hL)
  rcases hpass z hz with e | ⟨e, nm, e1, e2⟩
  · exact Or.inl e
  · exact Or.inr ⟨e, nm, o.w _ e1, o.k.2.2.2.2.2.1 _ e2⟩
end MO
section DEF
variable {G : zG} {X : zX} {cc : ByteArray} {nL fr lo mc ms cl sl pc : Nat} {h : zH} {L : List (Option Value)}
/-- Flight.isOlderThan: the default of Aged -/
theorem zc_D (o : zOk G X cc "Reorderium" nL fr lo mc ms) {p r fr' mc' ms' x : Nat} {P : Int32 → zH → Prop} {rest : List Value} (hk : zK h p = (8, r)) (hM : zCo G yX10_isOlderThan cX10_isOlderThan 2 (some .boolean) fr' mc' ms' [zrf p, zrf x] h (zPi P) zNX) (hd : decode cc pc = .ok (.invokevirtual 297, 3))
    (hb : (Nat.ble (fr' + 1) fr && Nat.ble (8 + (2 + 11) + 64 * fr') lo) = true) (hrest : Nat.ble rest.length 4 = true) (hcl : cl + mc' ≤ mc) (hsl : sl + ms' ≤ ms) (kk : ∀ x h', P x h' → zWf h' → zW G X h' (cl + mc') (sl + ms') (pc + 3) L (.int x :: rest)) : zW G X h cl sl pc L (zrf x :: zrf p :: rest) := by
  intro H locs ls hR hl hL T hT XX
  obtain ⟨a, rfl, cell, g1, g2, g3⟩ := zrecv o hR hk (by decide) (by decide)
  obtain ⟨c, m', rm, mk, z1, z2, z3, z4, z5, z6, z7, z8, z9⟩ := o.k.2.2.2.2.2.2.2.2.2.2.2.2.1
  have hcc : c = cell.cls := Option.some.inj (z1.symm.trans g3)
  subst hcc
  have hrm := zroom o hb (mc' := mc') (ms' := ms')
  have hcode : Cond.code yX10_isOlderThan cX10_isOlderThan 2 (some .boolean) ∈ lw_all := q1794
  have hws : ∀ w ∈ ws_ yX10_isOlderThan cX10_isOlderThan 2 (some .boolean), ∀ (a' : Array Value) (U : State), (Xs X).WarmedH U.vm → w.before a' U = true := fun w hw a' U hW => word_at hW (zmeth hcode w hw).2 (o.ts w (zmeth hcode w hw).1)
  have hini : Cond.initialized yX10_isOlderThan.cls ∈ lw_all := q3115
  have hK := vx_back (W9 := 8) (len := 3) (R := Xr X) (p := Xp X) (e := Xe X) (below := Xb X) (s := Xs X) (sargs := Xa X) (bytes := cX10_isOlderThan) (maxL := 2) (ret := some .boolean) hM zblind rfl rfl hrm.1 hrm.2 hws List.mem_cons_self (fun a' U hW => word_at hW (good_of_word (List.mem_filter.mp hini).2) (o.w _ hini))
  have hsel : selectMethod (Xe X).platform (Xs X).vm cell.cls m' = .method m' := by rw [Launch.admits_selectMethod XX.admits]; exact z6
  have hlen : ([zrf x] : List Value).length = rm.sig.parameters.length := by
    obtain ⟨methM', cM, hmethM', -, -, -, -, -, -, hsigM⟩ := Cond.code_spec z2 (o.w _ hcode)
    cases z3.symm.trans hmethM'
    have h9 : (parseMethodDescriptor yX10_isOlderThan.desc).map (fun d => d.parameters.length) = some 1 := by decide +kernel
    rw [hsigM] at h9
    exact (Option.some.inj h9).symm
  obtain ⟨vm₁, X₁, hstep₁⟩ := XX.invokevirtualUpD o.x (own := "Reorderium") (owner := "Reorderium$Aged") (index := 297) (x := ⟨"Reorderium$Flight", "isOlderThan", "(LReorderium$Aged;)Z"⟩) o.ow (o.ts _ (List.mem_append_right _ (by decide))) (o.ts _ (List.mem_append_right _ (by decide))) (by decide) z2 z3 z4 (a := a) (cell := cell) (by rw [hT]; exact g1) (fun z hz => by rw [hz] at g2; cases g2) hsel z3 z5 z7 z8 z9 (g := F0 (Xm X) pc ls (zrf x :: zrf (a + 1) :: rest)) rfl (argsL := [zrf x]) (rest := rest) hlen rfl (by rw [o.b]; exact hd)
  have hcom := hK (Xm X) (Xt X) (Xc X) ⟨T.setVm vm₁, locs, cl, sl⟩ (F0 (Xm X) pc ls rest) (.invokevirtual 297) m' ([zrf (a + 1), zrf x] : List Value).toArray X₁ rfl hL.1 (by rw [o.b]; exact hd) (lv_room (Nat.le_trans (zcats rest) (Nat.mul_le_mul_left 2 (Nat.le_of_ble_eq_true hrest)))) (X₁.named z2) ⟨by rw [o.r]; exact hcl, by rw [o.r]; exact hsl, zpre o hR _ (by exact hT) X₁.warmed⟩
  rcases hcom with ⟨v, ⟨U', l2, c2, s2⟩, X', ⟨g', mk', t, L2, e1, e2, ⟨⟨v', h', hv, ⟨y, hy, hp⟩, hR'⟩, hz⟩, w1, hL2, w2, w3⟩, hst⟩ | ⟨q, ⟨U', l2, c2, s2⟩, X', ⟨g', mk', t, L2, E, ce, e1, e2, ⟨⟨h', hp, -⟩, -⟩, -⟩, -⟩
  · cases hv
    subst hy
    dsimp only [Pt.U, Pt.locs, Pt.cells, Pt.slots] at X' e1 e2 w1 w2 w3 hst
    subst w1; subst w2; subst w3
    have hz2 : H.size ≤ t.heap.size := by rw [← hT]; exact hz
    obtain ⟨t2, a1, b1⟩ := kk y h' hp hR'.wf U'.heap (locs ++ L2) ls (by rw [e1]; exact hR') ⟨fun q hq => by
      rcases List.mem_append.mp hq with h | h
      · exact hl.1 q h
      · exact hL2 q h, Nat.le_trans hl.2 (by rw [e1]; exact hz2)⟩ hL U' rfl X'
    exact ⟨t2, hstep₁ _ (fun acts => by rw [doInvoke_state]; exact hst.trans a1), b1⟩
  · exact hp.elim
end DEF

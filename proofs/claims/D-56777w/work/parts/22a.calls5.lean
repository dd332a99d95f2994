/-! A CALL OVER FIVE VALUES: printed by mk22a.py -/
set_option maxRecDepth 100000
theorem zcat_i (x : Int32) : (Value.int x).category = 1 := rfl
section CL5
variable {G : zG} {X : zX} {cc : ByteArray} {own : String} {nL fr lo mc ms cl sl pc : Nat} {h : zH} {L : List (Option Value)} {st : List Value}
theorem zc_V5 (o : zOk G X cc own nL fr lo mc ms) {y : MethodName} {bytes : ByteArray} {maxL n index fr' mc' ms' : Nat} {Post : Option Value → zH → Prop} {XP : String → zH → Prop} {As rest st0 : List Value} {ret : Option FieldType}  {c r p : Nat} (hk : zK h p = (c, r)) (lk : zLV own index c y bytes maxL ret n) (hM : zCo G y bytes maxL ret fr' mc' ms' (zrf p :: As) h Post XP) (hd : decode cc pc = .ok (.invokevirtual index, 3)) (hst : st0 = As.reverse ++ zrf p :: rest) (hn : As.length = n) (hb : (Nat.ble (fr' + 1) fr && Nat.ble (8 + (maxL + 11) + 64 * fr') lo) = true) (hrest : (rest.map fun v => v.category).sum ≤ 8) (hcl : cl + mc' ≤ mc) (hsl : sl + ms' ≤ ms) (kx : ∀ E h', XP E h' → zWf h' → zTW G X h' (cl + mc') (sl + ms') pc L E) (kk : ∀ v h', Post v h' → zWf h' → zW G X h' (cl + mc') (sl + ms') (pc + 3) L (v.toList ++ rest)) : zW G X h cl sl pc L st0 := by
  intro H locs ls hR hl hL
  obtain ⟨h0, h1, hy0, l1, l2, l3, l4, l5, l6, l7⟩ := lk
  obtain ⟨a, rfl, hrc⟩ := zrecv o hR hk h0 h1
  subst hst
  have cw := cwV (C := y.cls) (R := Xr X) (s := Xs X) (args := Xa X) (own := own) (index := index) (mc := mc') (ms := ms') (rm := zRm fr' (64 * fr') mc' ms') n o.w (lw_V l1 l2 l3 l4 l5) rfl rfl rfl ⟨rfl, l6.1, l6.2, l7⟩ (zroom o hb)
  exact zgo (vx_runV (As := As) ⟨o.x, o.b, o.ml, o.ow, o.w⟩ hM cw ⟨zblind, by rw [hy0]; exact hrc, fun U hU hW => zpre o hR U hU hW⟩ rfl hn (hL.1.trans o.ml) rfl (lv_room hrest) hd ⟨by rw [o.r]; exact hcl, by rw [o.r]; exact hsl⟩) hl hL kx kk
theorem zc_S5 (o : zOk G X cc own nL fr lo mc ms) {y : MethodName} {bytes : ByteArray} {maxL n index fr' mc' ms' : Nat} {Post : Option Value → zH → Prop} {XP : String → zH → Prop} {As rest st0 : List Value} {ret : Option FieldType}   (lk : zLS own index y bytes maxL ret n) (hM : zCo G y bytes maxL ret fr' mc' ms' As h Post XP) (hd : decode cc pc = .ok (.invokestatic index, 3)) (hst : st0 = As.reverse ++ rest) (hn : As.length = n) (hb : (Nat.ble (fr' + 1) fr && Nat.ble (8 + (maxL + 11) + 64 * fr') lo) = true) (hrest : (rest.map fun v => v.category).sum ≤ 8) (hcl : cl + mc' ≤ mc) (hsl : sl + ms' ≤ ms) (kx : ∀ E h', XP E h' → zWf h' → zTW G X h' (cl + mc') (sl + ms') pc L E) (kk : ∀ v h', Post v h' → zWf h' → zW G X h' (cl + mc') (sl + ms') (pc + 3) L (v.toList ++ rest)) : zW G X h cl sl pc L st0 := by
  intro H locs ls hR hl hL
  obtain ⟨l1, l2, l3, l4, l6, l7⟩ := lk
  subst hst
  have cw := va_cwS (R := Xr X) (s := Xs X) (args := Xa X) (own := own) (index := index) (mc := mc') (ms := ms') (rm := zRm fr' (64 * fr') mc' ms') n o.w (lw_S l1 l2 l3 l4) rfl rfl rfl ⟨l6.1, l6.2, l7⟩ (zroom o hb)
  exact zgo (vx_runS (As := As) ⟨o.x, o.b, o.ml, o.ow, o.w⟩ hM cw ⟨zblind, fun U hU hW => zpre o hR U hU hW⟩ rfl hn (hL.1.trans o.ml) rfl (lv_room hrest) hd ⟨by rw [o.r]; exact hcl, by rw [o.r]; exact hsl⟩) hl hL kx kk
theorem zm_Vi5 {h0 : zH} {p q n : Nat} {g : MG} {S : MS} {y : MethodName} {bytes : ByteArray} {maxL m index fr' mc' ms' : Nat} {ret : Option FieldType} {As rest st0 : List Value} {S' : MS} (o : zOk G X cc own nL fr lo mc ms) {V : Int32} (lk : zLV own index 3 y bytes maxL ret m) (hM : zMi G y bytes maxL ret fr' mc' ms' p g q n As S V S') (hd : decode cc pc = .ok (.invokevirtual index, 3)) (hst : st0 = As.reverse ++ zrf p :: rest) (hn : As.length = m)
    (hb : (Nat.ble (fr' + 1) fr && Nat.ble (8 + (maxL + 11) + 64 * fr') lo) = true) (hrest : (rest.map fun v => v.category).sum ≤ 8) (hcl : cl + mc' ≤ mc) (hsl : sl + ms' ≤ ms) (kk : zQ (IM h0 p g q n S') G X (cl + mc') (sl + ms') (pc + 3) L (.int V :: rest)) : zQ (IM h0 p g q n S) G X cl sl pc L st0 := fun h hI hw =>
  zc_V5 o hI.1.1 lk (hM h0 h hI) hd hst hn hb hrest hcl hsl (fun _ _ h _ => h.elim) (fun v h' hv hw' => by obtain ⟨x, rfl, hp⟩ := hv; rw [hp.1]; exact kk h' hp.2 hw')
theorem zQ_Si5 {I : zH → Prop} {y : MethodName} {bytes : ByteArray} {maxL m index fr' : Nat} {ret : Option FieldType} {As rest st0 : List Value} (o : zOk G X cc own nL fr lo mc ms) {V : Int32} (lk : zLS own index y bytes maxL ret m) (hM : zSi G y bytes maxL ret fr' As V) (hd : decode cc pc = .ok (.invokestatic index, 3)) (hst : st0 = As.reverse ++ rest) (hn : As.length = m)
    (hb : (Nat.ble (fr' + 1) fr && Nat.ble (8 + (maxL + 11) + 64 * fr') lo) = true) (hrest : (rest.map fun v => v.category).sum ≤ 8) (hcl : cl + 0 ≤ mc) (hsl : sl + 0 ≤ ms) (kk : zQ I G X cl sl (pc + 3) L (.int V :: rest)) : zQ I G X cl sl pc L st0 := fun h hI hw =>
  zc_S5 o lk (hM h) hd hst hn hb hrest hcl hsl (fun _ _ h _ => h.elim) (fun v h' hv hw' => by obtain ⟨x, rfl, hp⟩ := hv; rw [hp.1, hp.2]; exact kk h hI hw)
end CL5

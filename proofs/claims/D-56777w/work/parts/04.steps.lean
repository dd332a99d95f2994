/-! ONE METHOD OVER THE ABSTRACT HEAP: contexts, steps, calls -/
set_option maxRecDepth 100000
/-- words that don't ride in lw_all but hold all through a run -/
def nestW : Cond → Bool
  | .fieldLinkNest _ _ _ _ _ _ => true
  | .methodLinkNest _ _ _ _ => true
  | .declares _ => true
  | .castable _ _ => true
  | _ => false
def lw_nest : List Cond := lw_tbl.filter nestW
theorem lw_nestI {w : Cond} (h : w ∈ lw_tbl) (g : nestW w = true) : w ∈ lw_nest := List.mem_filter.mpr ⟨h, g⟩
def zxw : List Cond := [.methodLink "Reorderium" 297 ⟨"Reorderium$Flight", "isOlderThan", "(LReorderium$Aged;)Z"⟩, .sameMethod "Reorderium$Flight" "Reorderium$Aged" "isOlderThan" "(LReorderium$Aged;)Z"]
theorem zxw_good : ∀ w ∈ zxw, goodWord w = true := by decide +kernel
theorem zxw_on : ∀ w ∈ zxw, w.onTables = true := by decide +kernel
def zts : List Cond := lw_all ++ zxw
def zLst : String := "java/util/List"
def zItr : String := "java/util/Iterator"
/-- calls by an interface: the receiver's class, the method named, the method run -/
def zfw : List (String × MethodName × MethodName) :=
  [(RJ2, ⟨zLst, "size", "()I"⟩, yJ2_size), (RJ2, ⟨zLst, "iterator", "()Ljava/util/Iterator;"⟩, yJ2_iterator), (RJ2, ⟨zLst, "get", "(I)Ljava/lang/Object;"⟩, yJ2_get), (RJ2, ⟨zLst, "add", "(Ljava/lang/Object;)Z"⟩, yJ2_add),
   (RJ26, ⟨zItr, "hasNext", "()Z"⟩, yJ26_hasNext), (RJ26, ⟨zItr, "next", "()Ljava/lang/Object;"⟩, yJ26_next),
   (RJ28, ⟨zItr, "hasNext", "()Z"⟩, yJ28_hasNext), (RJ28, ⟨zItr, "next", "()Ljava/lang/Object;"⟩, yJ28_next), (RJ28, ⟨zItr, "remove", "()V"⟩, yJ28_remove),
   (RJ32, ⟨zItr, "hasNext", "()Z"⟩, yJ32_hasNext), (RJ32, ⟨zItr, "next", "()Ljava/lang/Object;"⟩, yJ32_next), (RJ32, ⟨zItr, "remove", "()V"⟩, yJ32_remove),
   (RJ35, ⟨zItr, "hasNext", "()Z"⟩, yJ35_hasNext), (RJ35, ⟨zItr, "next", "()Ljava/lang/Object;"⟩, yJ35_next),
   (RX8, ⟨RX10, "age", "()J"⟩, yX8_age)]
theorem zfw_ok : ∀ q ∈ zfw, q.2.1.cls ≠ "java/lang/invoke/MethodHandle" ∧ q.2.1.cls ≠ "java/lang/invoke/VarHandle" := by decide +kernel
/-- exceptions that a handler doesn't take -/
def znc : List (String × String) := [("java/lang/IllegalStateException", "java/lang/IllegalArgumentException"), ("java/lang/IllegalArgumentException", "java/lang/IndexOutOfBoundsException"), ("java/util/NoSuchElementException", "java/lang/IndexOutOfBoundsException"), ("java/util/NoSuchElementException", "java/lang/IllegalArgumentException")]
/-- Flight.isOlderThan is Aged's default -/
def zDf (U : State) : Prop := ∃ (c : ClassId) (m : MethodId) (rm : Method) (mk : Class), U.vm.findClass "Reorderium$Flight" = some c ∧ U.methodNamed? yX10_isOlderThan = some m ∧ U.vm.method? m = some rm ∧ rm.isStatic = false ∧ rm.isAbstract = false ∧ selectMethod {} U.vm c m = .method m ∧ U.vm.classes[m.cls]? = some mk ∧ mk.isInterface = true ∧ NearOk U.vm c rm.name rm.desc m
theorem zDf.moved {u U : State} (hvm : u.vm.Alike U.vm) (h : zDf u) : zDf U := by
  obtain ⟨c, m, rm, mk, h1, h2, h3, h4, h5, h6, h7, h8, h9⟩ := h
  obtain ⟨mk', h7', he⟩ := hvm.2.2 _ _ h7
  have e2 : (u.setVm U.vm).methodNamed? yX10_isOlderThan = u.methodNamed? yX10_isOlderThan := State.methodNamed?_setVm hvm _
  exact ⟨c, m, rm, mk', by rw [hvm.findClass]; exact h1, e2.trans h2, by rw [hvm.method?]; exact h3, h4, h5, by rw [hvm.selectMethod]; exact h6, h7', by rw [he]; exact h8, h9.alike hvm⟩
/-- what the tables say, and the start's own cells, at any state of the run -/
def zKK (G : zG) (U : State) : Prop := va_K (zGd G) zcl (ztys (zGa G)) U ∧ (∀ w ∈ lw_nest, va_Nw w U) ∧ (∀ w ∈ zxw, va_Nw w U) ∧ (∀ q ∈ zfw, va_Fw q.1 q.2.1 q.2.2 U) ∧ (∀ z ∈ zGz G, va_Z z.1 z.2.1 z.2.2.1 z.2.2.2 (zFr G) U (zGh G)) ∧ (∀ q ∈ znc, va_Nc q.1 q.2 U) ∧
  vx_Zq Bundle.tN "UNASSIGNED_STACK" Bundle.steD (zFr G) U (zGh G) ∧ vx_Zq Bundle.tN "SUPPRESSED_SENTINEL" Bundle.listD (zFr G) U (zGh G) ∧ va_AO "java/lang/Object" U ∧ va_Dc U ∧ va_Mi "[Ljava/lang/Object;" (zGm G) U ∧ (∃ kA : Class, U.vm.classes[zGa G 206]? = some kA ∧ kA.kind = .array (zGa G 201) (.array .int)) ∧ zDf U ∧ vk_R "Reorderium" 110 "itfqxmbd" (zGs G) U
theorem zKK.moved {G : zG} {u U : State} (hW : u.WarmedH U.vm) (h : zKK G u) : zKK G U := by
  obtain ⟨h1, h2, h3, h4, h5, h6, h7, h8, h9, h10, h11, ⟨kA, h12, h13⟩, h14, h15⟩ := h
  have hvm := hW.alike
  refine ⟨va_K.moved hvm h1, fun w hw => ?_, fun w hw => ?_, fun q hq => va_Fw.moved (zfw_ok q hq) hvm (h4 q hq), fun z hz => va_Z.moved hvm (h5 z hz), fun q hq => va_Nc.moved hvm (h6 q hq), vx_Zq.moved hvm h7, vx_Zq.moved hvm h8, va_AO.moved hvm h9, va_Dc.moved hvm h10, va_Mi.moved hvm h11, ?_, zDf.moved hvm h14, vk_R.warm hW h15⟩
  · have h9 := h2 w hw
    have hg := (List.mem_filter.mp hw).2
    cases w with
    | fieldLinkNest a i b n d h => exact va_Nw.warmF hW h9
    | methodLinkNest a i x h => exact va_Nw.warmM hW h9
    | declares x => exact va_Nw.warmD hW h9
    | castable C T => exact va_Nw.warmC hW h9
    | _ => exact absurd hg (by simp [nestW])
  · exact word_at hW (good_of_word (zxw_good w hw)) (h3 w hw)
  · obtain ⟨k', hk', he⟩ := hvm.2.2 _ _ h12
    exact ⟨k', hk', by rw [he]; exact h13⟩
/-- the same across a call's entry: the tables stay -/
theorem zKK.called {G : zG} {U : State} {g : JFrame} {mk : MethodId} {a : Array Value} (h : zKK G U) : zKK G (U.calling g mk a) := zKK.moved (u := U) (State.WarmedH.refl U) h
abbrev zX : Type := Program × Env × Room × State × MethodId × Array Value × List Frame × Method × Code × (State → Prop)
abbrev Xp (X : zX) : Program := X.1
abbrev Xe (X : zX) : Env := X.2.1
abbrev Xr (X : zX) : Room := X.2.2.1
abbrev Xs (X : zX) : State := X.2.2.2.1
abbrev Xm (X : zX) : MethodId := X.2.2.2.2.1
abbrev Xa (X : zX) : Array Value := X.2.2.2.2.2.1
abbrev Xb (X : zX) : List Frame := X.2.2.2.2.2.2.1
abbrev Xt (X : zX) : Method := X.2.2.2.2.2.2.2.1
abbrev Xc (X : zX) : Code := X.2.2.2.2.2.2.2.2.1
abbrev Xq (X : zX) : State → Prop := X.2.2.2.2.2.2.2.2.2
abbrev zRm (fr lo mc ms : Nat) : Room := { frames := fr, cells := mc, slots := ms, locals := lo }
def zOk (G : zG) (X : zX) (cc : ByteArray) (own : String) (nL fr lo mc ms : Nat) : Prop :=
  (Xp X).tables.exec = Jvm.exec ∧ (Xc X).code = cc ∧ (Xc X).maxLocals = nL ∧ (Xs X).vm.findClass own = some (Xm X).cls ∧ (∀ w ∈ zts, w.before (Xa X) (Xs X) = true) ∧ (Xt X).locks = false ∧ Xr X = zRm fr lo mc ms ∧ zKK G (Xs X) ∧ zB G ≤ (Xs X).heap.size ∧ ∀ q : Nat, q < zB G → (Xs X).heap[q]? = (zGh G)[q]?
section OK
variable {G : zG} {X : zX} {cc : ByteArray} {own : String} {nL fr lo mc ms : Nat}
theorem zOk.x (o : zOk G X cc own nL fr lo mc ms) : (Xp X).tables.exec = Jvm.exec := o.1
theorem zOk.b (o : zOk G X cc own nL fr lo mc ms) : (Xc X).code = cc := o.2.1
theorem zOk.ml (o : zOk G X cc own nL fr lo mc ms) : (Xc X).maxLocals = nL := o.2.2.1
theorem zOk.ow (o : zOk G X cc own nL fr lo mc ms) : (Xs X).vm.findClass own = some (Xm X).cls := o.2.2.2.1
theorem zOk.ts (o : zOk G X cc own nL fr lo mc ms) : ∀ w ∈ zts, w.before (Xa X) (Xs X) = true := o.2.2.2.2.1
theorem zOk.w (o : zOk G X cc own nL fr lo mc ms) : ∀ w ∈ lw_all, w.before (Xa X) (Xs X) = true := fun w h => o.2.2.2.2.1 w (List.mem_append_left _ h)
theorem zOk.nl (o : zOk G X cc own nL fr lo mc ms) : (Xt X).locks = false := o.2.2.2.2.2.1
theorem zOk.r (o : zOk G X cc own nL fr lo mc ms) : Xr X = zRm fr lo mc ms := o.2.2.2.2.2.2.1
theorem zOk.k (o : zOk G X cc own nL fr lo mc ms) : zKK G (Xs X) := o.2.2.2.2.2.2.2.1
theorem zOk.hp (o : zOk G X cc own nL fr lo mc ms) : zB G ≤ (Xs X).heap.size ∧ ∀ q : Nat, q < zB G → (Xs X).heap[q]? = (zGh G)[q]? := o.2.2.2.2.2.2.2.2
theorem zOk.nest (o : zOk G X cc own nL fr lo mc ms) {w : Cond} (h : w ∈ lw_tbl) (g : nestW w = true) : va_Nw w (Xs X) := o.k.2.1 w (lw_nestI h g)
end OK
/-! locals: a list, none where nothing is known -/
def zasc : Nat → List (Option Value) → List (Nat × Value)
  | _, [] => []
  | k, none :: t => zasc (k + 1) t
  | k, some v :: t => (k, v) :: zasc (k + 1) t
theorem zasc_mem : ∀ (L : List (Option Value)) (k : Nat) (q : Nat × Value), q ∈ zasc k L ↔ k ≤ q.1 ∧ L[q.1 - k]? = some (some q.2)
  | [], k, q => by simp [zasc]
  | none :: t, k, q => by
    rw [zasc, zasc_mem t (k + 1) q]
    constructor
    · rintro ⟨h1, h2⟩
      refine ⟨by omega, ?_⟩
      rw [show q.1 - k = (q.1 - (k + 1)) + 1 by omega, List.getElem?_cons_succ]; exact h2
    · rintro ⟨h1, h2⟩
      by_cases e : q.1 = k
      · rw [e, Nat.sub_self] at h2; simp at h2
      · refine ⟨by omega, ?_⟩
        rw [show q.1 - k = (q.1 - (k + 1)) + 1 by omega, List.getElem?_cons_succ] at h2; exact h2
  | some v :: t, k, q => by
    rw [zasc, List.mem_cons, zasc_mem t (k + 1) q]
    constructor
    · rintro (rfl | ⟨h1, h2⟩)
      · exact ⟨Nat.le_refl _, by simp⟩
      · refine ⟨by omega, ?_⟩
        rw [show q.1 - k = (q.1 - (k + 1)) + 1 by omega, List.getElem?_cons_succ]; exact h2
    · rintro ⟨h1, h2⟩
      by_cases e : q.1 = k
      · left
        rw [e, Nat.sub_self] at h2
        obtain ⟨a, b⟩ := q
        simp at h2 e
        rw [h2, e]
      · right
        refine ⟨by omega, ?_⟩
        rw [show q.1 - k = (q.1 - (k + 1)) + 1 by omega, List.getElem?_cons_succ] at h2; exact h2
def zls (ls : Array Slot) (n : Nat) (L : List (Option Value)) : Prop := lv_has ls n (zasc 0 L)
theorem zls.get {ls : Array Slot} {n i : Nat} {L : List (Option Value)} {v : Value} (h : zls ls n L) (hi : L[i]? = some (some v)) : ls[i]? = some (.val v) := by
  refine h.2.2 (i, v) ((zasc_mem L 0 (i, v)).mpr ⟨Nat.zero_le _, ?_⟩)
  simpa using hi
theorem zls.sub {ls : Array Slot} {n : Nat} {L L' : List (Option Value)} (h : zls ls n L) (hs : ∀ (i : Nat) (v : Value), L'[i]? = some (some v) → L[i]? = some (some v)) : zls ls n L' :=
  ⟨h.1, h.2.1, fun q hq => by
    obtain ⟨-, h2⟩ := (zasc_mem L' 0 q).mp hq
    rw [Nat.sub_zero] at h2
    exact h.get (hs _ _ h2)⟩
def zc2 (L : List (Option Value)) (i : Nat) : Bool := match L[i]? with
  | some (some v) => v.category == 2
  | _ => false
theorem zls.set1 {ls : Array Slot} {n i : Nat} {L : List (Option Value)} {v : Value} (h : lv_has ls n ((i, v) :: (zasc 0 L).filter (fun q => !(q.1 == i) && !(q.1 + 1 == i && q.2.category == 2)))) (hp : i = 0 ∨ zc2 L (i - 1) = false) : zls ls n (L.set i (some v)) := by
  refine ⟨h.1, h.2.1, fun q hq => ?_⟩
  obtain ⟨-, h2⟩ := (zasc_mem _ 0 q).mp hq
  rw [Nat.sub_zero] at h2
  by_cases e : q.1 = i
  · rw [e, List.getElem?_set] at h2
    simp at h2
    have e2 : q = (i, v) := by obtain ⟨a, b⟩ := q; simp at e h2; rw [e, h2.2]
    exact h.2.2 q (by rw [e2]; exact List.mem_cons_self)
  · rw [List.getElem?_set_ne (Ne.symm e)] at h2
    refine h.2.2 q (List.mem_cons_of_mem _ (List.mem_filter.mpr ⟨(zasc_mem L 0 q).mpr ⟨Nat.zero_le _, by simpa using h2⟩, ?_⟩))
    simp only [Bool.and_eq_true, Bool.not_eq_true', beq_eq_false_iff_ne, ne_eq]
    refine ⟨e, ?_⟩
    rcases hp with hp | hp
    · subst hp
      simp
    · by_cases e3 : q.1 + 1 = i
      · have e4 : i - 1 = q.1 := by omega
        rw [e4] at hp
        unfold zc2 at hp
        rw [h2] at hp
        simp only at hp
        rw [hp]; simp
      · simp [e3]
theorem zls.set2 {ls : Array Slot} {n i : Nat} {L : List (Option Value)} {v : Value} (h : lv_has ls n ((i, v) :: (zasc 0 L).filter (fun q => !(q.1 == i) && (!(q.1 == i + 1) && !(q.1 + 1 == i && q.2.category == 2))))) (hp : i = 0 ∨ zc2 L (i - 1) = false) : zls ls n ((L.set i (some v)).set (i + 1) none) := by
  refine ⟨h.1, h.2.1, fun q hq => ?_⟩
  obtain ⟨-, h2⟩ := (zasc_mem _ 0 q).mp hq
  rw [Nat.sub_zero] at h2
  by_cases e0 : q.1 = i + 1
  · rw [e0, List.getElem?_set] at h2
    simp at h2
  rw [List.getElem?_set_ne (Ne.symm e0)] at h2
  by_cases e : q.1 = i
  · rw [e, List.getElem?_set] at h2
    simp at h2
    have e2 : q = (i, v) := by obtain ⟨a, b⟩ := q; simp at e h2; rw [e, h2.2]
    exact h.2.2 q (by rw [e2]; exact List.mem_cons_self)
  · rw [List.getElem?_set_ne (Ne.symm e)] at h2
    refine h.2.2 q (List.mem_cons_of_mem _ (List.mem_filter.mpr ⟨(zasc_mem L 0 q).mpr ⟨Nat.zero_le _, by simpa using h2⟩, ?_⟩))
    simp only [Bool.and_eq_true, Bool.not_eq_true', beq_eq_false_iff_ne, ne_eq]
    refine ⟨e, e0, ?_⟩
    rcases hp with hp | hp
    · subst hp
      simp
    · by_cases e3 : q.1 + 1 = i
      · have e4 : i - 1 = q.1 := by omega
        rw [e4] at hp
        unfold zc2 at hp
        rw [h2] at hp
        simp only at hp
        rw [hp]; simp
      · simp [e3]
/-- what was written lies above the start's heap; the heap only grows -/
def zLo (G : zG) (X : zX) (H : Heap) (locs : List Loc) : Prop := (∀ q ∈ locs, zB G ≤ q.base) ∧ (Xs X).heap.size ≤ H.size
/-- the method's frame stands at pc, the heap is h, cl cells of sl slots are made: it comes to an end with Xq -/
def zW (G : zG) (X : zX) (h : zH) (cl sl pc : Nat) (L : List (Option Value)) (st : List Value) : Prop :=
  ∀ (H : Heap) (locs : List Loc) (ls : Array Slot), Rep G h H → zLo G X H locs → zls ls (Xc X).maxLocals L →
    W (Xp X) (zGl G) (Xe X) (Xr X) (Xs X) (Xm X) (Xa X) (Xb X) (Xt X) (Xc X) H locs cl sl (Xq X) (F0 (Xm X) pc ls st)
/-- .. an exception of the class E is thrown over it -/
def zTW (G : zG) (X : zX) (h : zH) (cl sl pc : Nat) (L : List (Option Value)) (E : String) : Prop :=
  ∀ (H : Heap) (locs : List Loc) (ls : Array Slot) (q : Addr) (ce : Cell) (rest : List Value), Rep G h H → zLo G X H locs → zls ls (Xc X).maxLocals L → H[q]? = some ce → ce.vm = .none → (Xs X).vm.findClass E = some ce.cls →
    vx_W (Xp X) (zGl G) (Xe X) (Xr X) (Xs X) (Xm X) (Xa X) (Xb X) (Xt X) (Xc X) H locs cl sl (Xq X) (F0 (Xm X) pc ls rest) q
section ZW
variable {G : zG} {X : zX} {cc : ByteArray} {own : String} {nL fr lo mc ms cl sl pc : Nat} {h : zH} {L : List (Option Value)} {st : List Value}
theorem zW.lift {pc' : Nat} {st' : List Value} (k : zW G X h cl sl pc' L st')
    (w : ∀ (H : Heap) (locs : List Loc) (ls : Array Slot), W (Xp X) (zGl G) (Xe X) (Xr X) (Xs X) (Xm X) (Xa X) (Xb X) (Xt X) (Xc X) H locs cl sl (Xq X) (F0 (Xm X) pc' ls st') → W (Xp X) (zGl G) (Xe X) (Xr X) (Xs X) (Xm X) (Xa X) (Xb X) (Xt X) (Xc X) H locs cl sl (Xq X) (F0 (Xm X) pc ls st)) : zW G X h cl sl pc L st :=
  fun H locs ls hR hl hL => w H locs ls (k H locs ls hR hl hL)
theorem zwiden (k n : Nat) (h1 : cl ≤ k) (h2 : sl ≤ n) (w : zW G X h k n pc L st) : zW G X h cl sl pc L st := fun H locs ls hR hl hL => W.widen h1 h2 (w H locs ls hR hl hL)
theorem zforget {L' : List (Option Value)} (w : zW G X h cl sl pc L' st) (hs : ∀ (i : Nat) (v : Value), L'[i]? = some (some v) → L[i]? = some (some v)) : zW G X h cl sl pc L st := fun H locs ls hR hl hL => w H locs ls hR hl (hL.sub hs)
theorem zs_iconst (o : zOk G X cc own nL fr lo mc ms) {n : Int} {v : Int32} (hdg : decode cc pc = .ok (.iconst n, 1)) (hv : Int32.ofInt n = v) (k : zW G X h cl sl (pc + 1) L (.int v :: st)) : zW G X h cl sl pc L (st) :=
  fun H locs ls hR hl hL => lv_iconst o.x o.b hdg hv (k H locs ls hR hl hL)
theorem zs_bipush (o : zOk G X cc own nL fr lo mc ms) {n : Int} {v : Int32} (hdg : decode cc pc = .ok (.bipush n, 2)) (hv : (Int8.ofInt n).toInt32 = v) (k : zW G X h cl sl (pc + 2) L (.int v :: st)) : zW G X h cl sl pc L (st) :=
  fun H locs ls hR hl hL => lv_bipush o.x o.b hdg hv (k H locs ls hR hl hL)
theorem zs_sipush (o : zOk G X cc own nL fr lo mc ms) {n : Int} {v : Int32} (hdg : decode cc pc = .ok (.sipush n, 3)) (hv : (Int16.ofInt n).toInt32 = v) (k : zW G X h cl sl (pc + 3) L (.int v :: st)) : zW G X h cl sl pc L (st) :=
  fun H locs ls hR hl hL => lv_sipush o.x o.b hdg hv (k H locs ls hR hl hL)
theorem zs_lconst (o : zOk G X cc own nL fr lo mc ms) {n : Fin 2} {v : Int64} (hdg : decode cc pc = .ok (.lconst n, 1)) (hv : Int64.ofNat (n : Nat) = v) (k : zW G X h cl sl (pc + 1) L (.long v :: st)) : zW G X h cl sl pc L (st) :=
  fun H locs ls hR hl hL => lv_lconst o.x o.b hdg hv (k H locs ls hR hl hL)
theorem zs_iadd (o : zOk G X cc own nL fr lo mc ms) {x y : Int32} (hdg : decode cc pc = .ok (.iadd, 1)) (k : zW G X h cl sl (pc + 1) L (.int (x + y) :: st)) : zW G X h cl sl pc L (.int y :: .int x :: st) :=
  fun H locs ls hR hl hL => lv_iadd o.x o.b hdg (k H locs ls hR hl hL)
theorem zs_isub (o : zOk G X cc own nL fr lo mc ms) {x y : Int32} (hdg : decode cc pc = .ok (.isub, 1)) (k : zW G X h cl sl (pc + 1) L (.int (x - y) :: st)) : zW G X h cl sl pc L (.int y :: .int x :: st) :=
  fun H locs ls hR hl hL => lv_isub o.x o.b hdg (k H locs ls hR hl hL)
theorem zs_imul (o : zOk G X cc own nL fr lo mc ms) {x y : Int32} (hdg : decode cc pc = .ok (.imul, 1)) (k : zW G X h cl sl (pc + 1) L (.int (x * y) :: st)) : zW G X h cl sl pc L (.int y :: .int x :: st) :=
  fun H locs ls hR hl hL => lv_imul o.x o.b hdg (k H locs ls hR hl hL)
theorem zs_iand (o : zOk G X cc own nL fr lo mc ms) {x y : Int32} (hdg : decode cc pc = .ok (.iand, 1)) (k : zW G X h cl sl (pc + 1) L (.int (x &&& y) :: st)) : zW G X h cl sl pc L (.int y :: .int x :: st) :=
  fun H locs ls hR hl hL => lv_iand o.x o.b hdg (k H locs ls hR hl hL)
theorem zs_ior (o : zOk G X cc own nL fr lo mc ms) {x y : Int32} (hdg : decode cc pc = .ok (.ior, 1)) (k : zW G X h cl sl (pc + 1) L (.int (x ||| y) :: st)) : zW G X h cl sl pc L (.int y :: .int x :: st) :=
  fun H locs ls hR hl hL => lv_ior o.x o.b hdg (k H locs ls hR hl hL)
theorem zs_ixor (o : zOk G X cc own nL fr lo mc ms) {x y : Int32} (hdg : decode cc pc = .ok (.ixor, 1)) (k : zW G X h cl sl (pc + 1) L (.int (x ^^^ y) :: st)) : zW G X h cl sl pc L (.int y :: .int x :: st) :=
  fun H locs ls hR hl hL => lv_ixor o.x o.b hdg (k H locs ls hR hl hL)
theorem zs_idiv (o : zOk G X cc own nL fr lo mc ms) {x y : Int32} (hdg : decode cc pc = .ok (.idiv, 1)) (hne : ¬ y = 0) (k : zW G X h cl sl (pc + 1) L (.int (x / y) :: st)) : zW G X h cl sl pc L (.int y :: .int x :: st) :=
  fun H locs ls hR hl hL => lv_idiv o.x o.b hdg hne (k H locs ls hR hl hL)
theorem zs_irem (o : zOk G X cc own nL fr lo mc ms) {x y : Int32} (hdg : decode cc pc = .ok (.irem, 1)) (hne : ¬ y = 0) (k : zW G X h cl sl (pc + 1) L (.int (x - x / y * y) :: st)) : zW G X h cl sl pc L (.int y :: .int x :: st) :=
  fun H locs ls hR hl hL => lv_irem o.x o.b hdg hne (k H locs ls hR hl hL)
theorem zs_ineg (o : zOk G X cc own nL fr lo mc ms) {x : Int32} (hdg : decode cc pc = .ok (.ineg, 1)) (k : zW G X h cl sl (pc + 1) L (.int (-x) :: st)) : zW G X h cl sl pc L (.int x :: st) :=
  fun H locs ls hR hl hL => lv_ineg o.x o.b hdg (k H locs ls hR hl hL)
theorem zs_ladd (o : zOk G X cc own nL fr lo mc ms) {x y : Int64} (hdg : decode cc pc = .ok (.ladd, 1)) (k : zW G X h cl sl (pc + 1) L (.long (x + y) :: st)) : zW G X h cl sl pc L (.long y :: .long x :: st) :=
  fun H locs ls hR hl hL => lv_ladd o.x o.b hdg (k H locs ls hR hl hL)
theorem zs_lsub (o : zOk G X cc own nL fr lo mc ms) {x y : Int64} (hdg : decode cc pc = .ok (.lsub, 1)) (k : zW G X h cl sl (pc + 1) L (.long (x - y) :: st)) : zW G X h cl sl pc L (.long y :: .long x :: st) :=
  fun H locs ls hR hl hL => lv_lsub o.x o.b hdg (k H locs ls hR hl hL)
theorem zs_lmul (o : zOk G X cc own nL fr lo mc ms) {x y : Int64} (hdg : decode cc pc = .ok (.lmul, 1)) (k : zW G X h cl sl (pc + 1) L (.long (x * y) :: st)) : zW G X h cl sl pc L (.long y :: .long x :: st) :=
  fun H locs ls hR hl hL => lv_lmul o.x o.b hdg (k H locs ls hR hl hL)
theorem zs_land (o : zOk G X cc own nL fr lo mc ms) {x y : Int64} (hdg : decode cc pc = .ok (.land, 1)) (k : zW G X h cl sl (pc + 1) L (.long (x &&& y) :: st)) : zW G X h cl sl pc L (.long y :: .long x :: st) :=
  fun H locs ls hR hl hL => lv_land o.x o.b hdg (k H locs ls hR hl hL)
theorem zs_lor (o : zOk G X cc own nL fr lo mc ms) {x y : Int64} (hdg : decode cc pc = .ok (.lor, 1)) (k : zW G X h cl sl (pc + 1) L (.long (x ||| y) :: st)) : zW G X h cl sl pc L (.long y :: .long x :: st) :=
  fun H locs ls hR hl hL => lv_lor o.x o.b hdg (k H locs ls hR hl hL)
theorem zs_lxor (o : zOk G X cc own nL fr lo mc ms) {x y : Int64} (hdg : decode cc pc = .ok (.lxor, 1)) (k : zW G X h cl sl (pc + 1) L (.long (x ^^^ y) :: st)) : zW G X h cl sl pc L (.long y :: .long x :: st) :=
  fun H locs ls hR hl hL => lv_lxor o.x o.b hdg (k H locs ls hR hl hL)
theorem zs_ishl (o : zOk G X cc own nL fr lo mc ms) {x y : Int32} (hdg : decode cc pc = .ok (.ishl, 1)) (k : zW G X h cl sl (pc + 1) L (.int (x <<< (y &&& 31)) :: st)) : zW G X h cl sl pc L (.int y :: .int x :: st) :=
  fun H locs ls hR hl hL => lv_ishl o.x o.b hdg (k H locs ls hR hl hL)
theorem zs_ishr (o : zOk G X cc own nL fr lo mc ms) {x y : Int32} (hdg : decode cc pc = .ok (.ishr, 1)) (k : zW G X h cl sl (pc + 1) L (.int (x >>> (y &&& 31)) :: st)) : zW G X h cl sl pc L (.int y :: .int x :: st) :=
  fun H locs ls hR hl hL => lv_ishr o.x o.b hdg (k H locs ls hR hl hL)
theorem zs_i2l (o : zOk G X cc own nL fr lo mc ms) {x : Int32} {v : Int64} (hdg : decode cc pc = .ok (.i2l, 1)) (hv : x.toInt64 = v) (k : zW G X h cl sl (pc + 1) L (.long v :: st)) : zW G X h cl sl pc L (.int x :: st) :=
  fun H locs ls hR hl hL => lv_i2l o.x o.b hdg hv (k H locs ls hR hl hL)
theorem zs_l2i (o : zOk G X cc own nL fr lo mc ms) {x : Int64} {v : Int32} (hdg : decode cc pc = .ok (.l2i, 1)) (hv : x.toInt32 = v) (k : zW G X h cl sl (pc + 1) L (.int v :: st)) : zW G X h cl sl pc L (.long x :: st) :=
  fun H locs ls hR hl hL => lv_l2i o.x o.b hdg hv (k H locs ls hR hl hL)
theorem zs_i2c (o : zOk G X cc own nL fr lo mc ms) {x : Int32} {v : Int32} (hdg : decode cc pc = .ok (.i2c, 1)) (hv : (x.toUInt32 % 65536).toInt32 = v) (k : zW G X h cl sl (pc + 1) L (.int v :: st)) : zW G X h cl sl pc L (.int x :: st) :=
  fun H locs ls hR hl hL => lv_i2c o.x o.b hdg hv (k H locs ls hR hl hL)
theorem zs_i2b (o : zOk G X cc own nL fr lo mc ms) {x : Int32} {v : Int32} (hdg : decode cc pc = .ok (.i2b, 1)) (hv : x.toInt8.toInt32 = v) (k : zW G X h cl sl (pc + 1) L (.int v :: st)) : zW G X h cl sl pc L (.int x :: st) :=
  fun H locs ls hR hl hL => lv_i2b o.x o.b hdg hv (k H locs ls hR hl hL)
theorem zs_iushr (o : zOk G X cc own nL fr lo mc ms) {x y v : Int32} (hdg : decode cc pc = .ok (.iushr, 1)) (hv : (x.toUInt32 >>> (y.toUInt32 &&& Int32.toUInt32 31)).toInt32 = v) (k : zW G X h cl sl (pc + 1) L (.int v :: st)) : zW G X h cl sl pc L (.int y :: .int x :: st) :=
  fun H locs ls hR hl hL => lv_iushr o.x o.b hdg hv (k H locs ls hR hl hL)
theorem zs_lushr (o : zOk G X cc own nL fr lo mc ms) {x v : Int64} {y : Int32} (hdg : decode cc pc = .ok (.lushr, 1)) (hv : (x.toUInt64 >>> (y.toInt64.toUInt64 &&& Int64.toUInt64 63)).toInt64 = v) (k : zW G X h cl sl (pc + 1) L (.long v :: st)) : zW G X h cl sl pc L (.int y :: .long x :: st) :=
  fun H locs ls hR hl hL => lv_lushr o.x o.b hdg hv (k H locs ls hR hl hL)
theorem zs_lshl (o : zOk G X cc own nL fr lo mc ms) {x v : Int64} {y : Int32} (hdg : decode cc pc = .ok (.lshl, 1)) (hv : x <<< (y.toInt64 &&& 63) = v) (k : zW G X h cl sl (pc + 1) L (.long v :: st)) : zW G X h cl sl pc L (.int y :: .long x :: st) :=
  fun H locs ls hR hl hL => lv_lshl o.x o.b hdg hv (k H locs ls hR hl hL)
theorem zs_lshr (o : zOk G X cc own nL fr lo mc ms) {x v : Int64} {y : Int32} (hdg : decode cc pc = .ok (.lshr, 1)) (hv : x >>> (y.toInt64 &&& 63) = v) (k : zW G X h cl sl (pc + 1) L (.long v :: st)) : zW G X h cl sl pc L (.int y :: .long x :: st) :=
  fun H locs ls hR hl hL => lv_lshr o.x o.b hdg hv (k H locs ls hR hl hL)
theorem zs_dup (o : zOk G X cc own nL fr lo mc ms) {va : Value} (hdg : decode cc pc = .ok (.dup, 1)) (hva : va.category = 1) (k : zW G X h cl sl (pc + 1) L (va :: va :: st)) : zW G X h cl sl pc L (va :: st) :=
  fun H locs ls hR hl hL => lv_dup o.x o.b hdg hva (k H locs ls hR hl hL)
theorem zs_pop (o : zOk G X cc own nL fr lo mc ms) {va : Value} (hdg : decode cc pc = .ok (.pop, 1)) (hva : va.category = 1) (k : zW G X h cl sl (pc + 1) L (st)) : zW G X h cl sl pc L (va :: st) :=
  fun H locs ls hR hl hL => lv_pop o.x o.b hdg hva (k H locs ls hR hl hL)
theorem zs_dup_x1 (o : zOk G X cc own nL fr lo mc ms) {va vb : Value} (hdg : decode cc pc = .ok (.dup_x1, 1)) (hva : va.category = 1) (hvb : vb.category = 1) (k : zW G X h cl sl (pc + 1) L (va :: vb :: va :: st)) : zW G X h cl sl pc L (va :: vb :: st) :=
  fun H locs ls hR hl hL => lv_dup_x1 o.x o.b hdg hva hvb (k H locs ls hR hl hL)
theorem zs_dup_x2 (o : zOk G X cc own nL fr lo mc ms) {va vb vd : Value} (hdg : decode cc pc = .ok (.dup_x2, 1)) (hva : va.category = 1) (hvb : vb.category = 1) (hvd : vd.category = 1) (k : zW G X h cl sl (pc + 1) L (va :: vb :: vd :: va :: st)) : zW G X h cl sl pc L (va :: vb :: vd :: st) :=
  fun H locs ls hR hl hL => lv_dup_x2 o.x o.b hdg hva hvb hvd (k H locs ls hR hl hL)
theorem zs_dup2_11 (o : zOk G X cc own nL fr lo mc ms) {va vb : Value} (hdg : decode cc pc = .ok (.dup2, 1)) (hva : va.category = 1) (hvb : vb.category = 1) (k : zW G X h cl sl (pc + 1) L (va :: vb :: va :: vb :: st)) : zW G X h cl sl pc L (va :: vb :: st) :=
  fun H locs ls hR hl hL => lv_dup2_11 o.x o.b hdg hva hvb (k H locs ls hR hl hL)
theorem zs_dup2_2 (o : zOk G X cc own nL fr lo mc ms) {va : Value} (hdg : decode cc pc = .ok (.dup2, 1)) (hva : va.category = 2) (k : zW G X h cl sl (pc + 1) L (va :: va :: st)) : zW G X h cl sl pc L (va :: st) :=
  fun H locs ls hR hl hL => lv_dup2_2 o.x o.b hdg hva (k H locs ls hR hl hL)
theorem zs_dup2_x1_2 (o : zOk G X cc own nL fr lo mc ms) {va vb : Value} (hdg : decode cc pc = .ok (.dup2_x1, 1)) (hva : va.category = 2) (hvb : vb.category = 1) (k : zW G X h cl sl (pc + 1) L (va :: vb :: va :: st)) : zW G X h cl sl pc L (va :: vb :: st) :=
  fun H locs ls hR hl hL => lv_dup2_x1_2 o.x o.b hdg hva hvb (k H locs ls hR hl hL)
theorem zs_goto (o : zOk G X cc own nL fr lo mc ms) {off : Int} {tgt : Nat} (hdg : decode cc pc = .ok (.goto off, 3)) (ht : (pc : Int) + off = (tgt : Int)) (k : zW G X h cl sl tgt L (st)) : zW G X h cl sl pc L (st) :=
  fun H locs ls hR hl hL => lv_goto o.x o.b hdg ht (k H locs ls hR hl hL)
theorem zs_fconst0 (o : zOk G X cc own nL fr lo mc ms) (hdg : decode cc pc = .ok (.fconst 0, 1)) (k : zW G X h cl sl (pc + 1) L (.float FP.fconst0 :: st)) : zW G X h cl sl pc L (st) :=
  fun H locs ls hR hl hL => lv_fconst0 o.x o.b hdg (k H locs ls hR hl hL)
theorem zs_fdiv (o : zOk G X cc own nL fr lo mc ms) {x y : UInt32} (hdg : decode cc pc = .ok (.fdiv, 1)) (hne : vf_n32 (FP.fdiv x y)) (k : zW G X h cl sl (pc + 1) L (.float (FP.fdiv x y) :: st)) : zW G X h cl sl pc L (.float y :: .float x :: st) :=
  fun H locs ls hR hl hL => lv_fdiv o.x o.b hdg hne (k H locs ls hR hl hL)
theorem zs_fcmp (o : zOk G X cc own nL fr lo mc ms) {x y : UInt32} {op : CmpOp} (hdg : decode cc pc = .ok (.fcmp op, 1)) (k : zW G X h cl sl (pc + 1) L (.int (Op.cmpValue (FP.fcmp x y) op) :: st)) : zW G X h cl sl pc L (.float y :: .float x :: st) :=
  fun H locs ls hR hl hL => lv_fcmp o.x o.b hdg (k H locs ls hR hl hL)
theorem zs_i2f (o : zOk G X cc own nL fr lo mc ms) {x : Int32} (hdg : decode cc pc = .ok (.i2f, 1)) (k : zW G X h cl sl (pc + 1) L (.float (FP.i2f x) :: st)) : zW G X h cl sl pc L (.int x :: st) :=
  fun H locs ls hR hl hL => lv_i2f o.x o.b hdg (k H locs ls hR hl hL)
theorem zs_f2d (o : zOk G X cc own nL fr lo mc ms) {x : UInt32} (hdg : decode cc pc = .ok (.f2d, 1)) (hne : vf_n64 (FP.f2d x)) (k : zW G X h cl sl (pc + 1) L (.double (FP.f2d x) :: st)) : zW G X h cl sl pc L (.float x :: st) :=
  fun H locs ls hR hl hL => lv_f2d o.x o.b hdg hne (k H locs ls hR hl hL)
theorem zs_dcmp (o : zOk G X cc own nL fr lo mc ms) {x y : UInt64} {op : CmpOp} (hdg : decode cc pc = .ok (.dcmp op, 1)) (k : zW G X h cl sl (pc + 1) L (.int (Op.cmpValue (FP.dcmp x y) op) :: st)) : zW G X h cl sl pc L (.double y :: .double x :: st) :=
  fun H locs ls hR hl hL => lv_dcmp o.x o.b hdg (k H locs ls hR hl hL)
theorem zs_null (o : zOk G X cc own nL fr lo mc ms) (hdg : decode cc pc = .ok (.aconst_null, 1)) (k : zW G X h cl sl (pc + 1) L (.null :: st)) : zW G X h cl sl pc L (st) :=
  fun H locs ls hR hl hL => lv_null o.x o.b hdg (k H locs ls hR hl hL)
theorem zs_lcmp (o : zOk G X cc own nL fr lo mc ms) {x y : Int64} (hdg : decode cc pc = .ok (.lcmp, 1)) (k : zW G X h cl sl (pc + 1) L (.int (lg_cmp x y) :: st)) : zW G X h cl sl pc L (.long y :: .long x :: st) :=
  fun H locs ls hR hl hL => W.lcmp o.x o.b hdg (k H locs ls hR hl hL)
theorem zs_ldc (o : zOk G X cc own nL fr lo mc ms) {index : Nat} {v : Int32} (hconst : (Jvm.Cond.constant own index v) ∈ lw_all) (hdg : decode cc pc = .ok (.ldc index, 2)) (k : zW G X h cl sl (pc + 2) L (.int v :: st)) : zW G X h cl sl pc L (st) :=
  fun H locs ls hR hl hL => lv_ldc o.x o.b o.ow (o.w _ hconst) hdg (k H locs ls hR hl hL)
theorem zs_ldc2 (o : zOk G X cc own nL fr lo mc ms) {index : Nat} {v : Int64} (hconst : (Jvm.Cond.constantLong own index v) ∈ lw_all) (hdg : decode cc pc = .ok (.ldc2_w index, 3)) (k : zW G X h cl sl (pc + 3) L (.long v :: st)) : zW G X h cl sl pc L (st) :=
  fun H locs ls hR hl hL => lv_ldc2 o.x o.b o.ow (o.w _ hconst) hdg (k H locs ls hR hl hL)
theorem zs_tableOut (o : zOk G X cc own nL fr lo mc ms) {dflt lo hi : Int} {offs : Array Int} {len : Nat} {x : Int32} {tgt : Nat} (hdg : decode cc pc = .ok (.tableswitch dflt lo hi offs, len)) (h9 : x.toInt < lo ∨ hi < x.toInt) (ht : (pc : Int) + dflt = (tgt : Int)) (k : zW G X h cl sl tgt L (st)) : zW G X h cl sl pc L (.int x :: st) :=
  fun H locs ls hR hl hL => lv_tableOut o.x o.b hdg h9 ht (k H locs ls hR hl hL)
theorem zs_tableIn (o : zOk G X cc own nL fr lo mc ms) {dflt lo hi : Int} {offs : Array Int} {len : Nat} {x : Int32} {off : Int} {tgt : Nat} (hdg : decode cc pc = .ok (.tableswitch dflt lo hi offs, len)) (h1 : ¬ x.toInt < lo) (h2 : ¬ hi < x.toInt) (ho : offs[(x.toInt - lo).toNat]? = some off) (ht : (pc : Int) + off = (tgt : Int)) (k : zW G X h cl sl tgt L (st)) : zW G X h cl sl pc L (.int x :: st) :=
  fun H locs ls hR hl hL => lv_tableIn o.x o.b hdg h1 h2 ho ht (k H locs ls hR hl hL)
theorem zs_lookup (o : zOk G X cc own nL fr lo mc ms) {dflt : Int} {ps : Array (Int × Int)} {len : Nat} {x : Int32} {off : Int} {tgt : Nat} (hdg : decode cc pc = .ok (.lookupswitch dflt ps, len)) (hp : (ps.toList.zip (ps.toList.drop 1)).all (fun (a, next) => a.1 < next.1) = true) (ho : Op.lookupswitch.offset ps.toList dflt x.toInt = off) (ht : (pc : Int) + off = (tgt : Int)) (k : zW G X h cl sl tgt L (st)) : zW G X h cl sl pc L (.int x :: st) :=
  fun H locs ls hR hl hL => lv_lookup o.x o.b hdg hp ho ht (k H locs ls hR hl hL)
theorem zs_if_eq (o : zOk G X cc own nL fr lo mc ms) {x : Int32} {off : Int} {tgt : Nat} (hdg : decode cc pc = .ok (.ifCond .eq off, 3)) (ht : (pc : Int) + off = (tgt : Int)) (kt : x = 0 → zW G X h cl sl tgt L (st)) (kf : ¬ x = 0 → zW G X h cl sl (pc + 3) L (st)) : zW G X h cl sl pc L (.int x :: st) :=
  fun H locs ls hR hl hL => lv_if_eq o.x o.b hdg ht (fun c => kt c H locs ls hR hl hL) (fun c => kf c H locs ls hR hl hL)
theorem zs_icmp_eq (o : zOk G X cc own nL fr lo mc ms) {x y : Int32} {off : Int} {tgt : Nat} (hdg : decode cc pc = .ok (.if_icmp .eq off, 3)) (ht : (pc : Int) + off = (tgt : Int)) (kt : x = y → zW G X h cl sl tgt L (st)) (kf : ¬ x = y → zW G X h cl sl (pc + 3) L (st)) : zW G X h cl sl pc L (.int y :: .int x :: st) :=
  fun H locs ls hR hl hL => lv_icmp_eq o.x o.b hdg ht (fun c => kt c H locs ls hR hl hL) (fun c => kf c H locs ls hR hl hL)
theorem zs_if_ne (o : zOk G X cc own nL fr lo mc ms) {x : Int32} {off : Int} {tgt : Nat} (hdg : decode cc pc = .ok (.ifCond .ne off, 3)) (ht : (pc : Int) + off = (tgt : Int)) (kt : ¬ x = 0 → zW G X h cl sl tgt L (st)) (kf : x = 0 → zW G X h cl sl (pc + 3) L (st)) : zW G X h cl sl pc L (.int x :: st) :=
  fun H locs ls hR hl hL => lv_if_ne o.x o.b hdg ht (fun c => kt c H locs ls hR hl hL) (fun c => kf c H locs ls hR hl hL)
theorem zs_icmp_ne (o : zOk G X cc own nL fr lo mc ms) {x y : Int32} {off : Int} {tgt : Nat} (hdg : decode cc pc = .ok (.if_icmp .ne off, 3)) (ht : (pc : Int) + off = (tgt : Int)) (kt : ¬ x = y → zW G X h cl sl tgt L (st)) (kf : x = y → zW G X h cl sl (pc + 3) L (st)) : zW G X h cl sl pc L (.int y :: .int x :: st) :=
  fun H locs ls hR hl hL => lv_icmp_ne o.x o.b hdg ht (fun c => kt c H locs ls hR hl hL) (fun c => kf c H locs ls hR hl hL)
theorem zs_if_lt (o : zOk G X cc own nL fr lo mc ms) {x : Int32} {off : Int} {tgt : Nat} (hdg : decode cc pc = .ok (.ifCond .lt off, 3)) (ht : (pc : Int) + off = (tgt : Int)) (kt : x < 0 → zW G X h cl sl tgt L (st)) (kf : ¬ x < 0 → zW G X h cl sl (pc + 3) L (st)) : zW G X h cl sl pc L (.int x :: st) :=
  fun H locs ls hR hl hL => lv_if_lt o.x o.b hdg ht (fun c => kt c H locs ls hR hl hL) (fun c => kf c H locs ls hR hl hL)
theorem zs_icmp_lt (o : zOk G X cc own nL fr lo mc ms) {x y : Int32} {off : Int} {tgt : Nat} (hdg : decode cc pc = .ok (.if_icmp .lt off, 3)) (ht : (pc : Int) + off = (tgt : Int)) (kt : x < y → zW G X h cl sl tgt L (st)) (kf : ¬ x < y → zW G X h cl sl (pc + 3) L (st)) : zW G X h cl sl pc L (.int y :: .int x :: st) :=
  fun H locs ls hR hl hL => lv_icmp_lt o.x o.b hdg ht (fun c => kt c H locs ls hR hl hL) (fun c => kf c H locs ls hR hl hL)
theorem zs_if_ge (o : zOk G X cc own nL fr lo mc ms) {x : Int32} {off : Int} {tgt : Nat} (hdg : decode cc pc = .ok (.ifCond .ge off, 3)) (ht : (pc : Int) + off = (tgt : Int)) (kt : 0 ≤ x → zW G X h cl sl tgt L (st)) (kf : ¬ 0 ≤ x → zW G X h cl sl (pc + 3) L (st)) : zW G X h cl sl pc L (.int x :: st) :=
  fun H locs ls hR hl hL => lv_if_ge o.x o.b hdg ht (fun c => kt c H locs ls hR hl hL) (fun c => kf c H locs ls hR hl hL)
theorem zs_icmp_ge (o : zOk G X cc own nL fr lo mc ms) {x y : Int32} {off : Int} {tgt : Nat} (hdg : decode cc pc = .ok (.if_icmp .ge off, 3)) (ht : (pc : Int) + off = (tgt : Int)) (kt : y ≤ x → zW G X h cl sl tgt L (st)) (kf : ¬ y ≤ x → zW G X h cl sl (pc + 3) L (st)) : zW G X h cl sl pc L (.int y :: .int x :: st) :=
  fun H locs ls hR hl hL => lv_icmp_ge o.x o.b hdg ht (fun c => kt c H locs ls hR hl hL) (fun c => kf c H locs ls hR hl hL)
theorem zs_if_gt (o : zOk G X cc own nL fr lo mc ms) {x : Int32} {off : Int} {tgt : Nat} (hdg : decode cc pc = .ok (.ifCond .gt off, 3)) (ht : (pc : Int) + off = (tgt : Int)) (kt : 0 < x → zW G X h cl sl tgt L (st)) (kf : ¬ 0 < x → zW G X h cl sl (pc + 3) L (st)) : zW G X h cl sl pc L (.int x :: st) :=
  fun H locs ls hR hl hL => lv_if_gt o.x o.b hdg ht (fun c => kt c H locs ls hR hl hL) (fun c => kf c H locs ls hR hl hL)
theorem zs_icmp_gt (o : zOk G X cc own nL fr lo mc ms) {x y : Int32} {off : Int} {tgt : Nat} (hdg : decode cc pc = .ok (.if_icmp .gt off, 3)) (ht : (pc : Int) + off = (tgt : Int)) (kt : y < x → zW G X h cl sl tgt L (st)) (kf : ¬ y < x → zW G X h cl sl (pc + 3) L (st)) : zW G X h cl sl pc L (.int y :: .int x :: st) :=
  fun H locs ls hR hl hL => lv_icmp_gt o.x o.b hdg ht (fun c => kt c H locs ls hR hl hL) (fun c => kf c H locs ls hR hl hL)
theorem zs_if_le (o : zOk G X cc own nL fr lo mc ms) {x : Int32} {off : Int} {tgt : Nat} (hdg : decode cc pc = .ok (.ifCond .le off, 3)) (ht : (pc : Int) + off = (tgt : Int)) (kt : x ≤ 0 → zW G X h cl sl tgt L (st)) (kf : ¬ x ≤ 0 → zW G X h cl sl (pc + 3) L (st)) : zW G X h cl sl pc L (.int x :: st) :=
  fun H locs ls hR hl hL => lv_if_le o.x o.b hdg ht (fun c => kt c H locs ls hR hl hL) (fun c => kf c H locs ls hR hl hL)
theorem zs_icmp_le (o : zOk G X cc own nL fr lo mc ms) {x y : Int32} {off : Int} {tgt : Nat} (hdg : decode cc pc = .ok (.if_icmp .le off, 3)) (ht : (pc : Int) + off = (tgt : Int)) (kt : x ≤ y → zW G X h cl sl tgt L (st)) (kf : ¬ x ≤ y → zW G X h cl sl (pc + 3) L (st)) : zW G X h cl sl pc L (.int y :: .int x :: st) :=
  fun H locs ls hR hl hL => lv_icmp_le o.x o.b hdg ht (fun c => kt c H locs ls hR hl hL) (fun c => kf c H locs ls hR hl hL)
theorem zs_iload_n (o : zOk G X cc own nL fr lo mc ms) {k : Fin 4} {i : Nat} {x : Int32} (hd : decode cc pc = .ok (.iload_n k, 1)) (hi : (k : Nat) = i) (hv : L[i]? = some (some (.int x))) (k : zW G X h cl sl (pc + 1) L (.int x :: st)) : zW G X h cl sl pc L st :=
  fun H locs ls hR hl hL => lv_iload_n o.x o.b hd hi (hL.get hv) (k H locs ls hR hl hL)
theorem zs_iload (o : zOk G X cc own nL fr lo mc ms) {i : Nat} {x : Int32} (hd : decode cc pc = .ok (.iload i, 2)) (hv : L[i]? = some (some (.int x))) (k : zW G X h cl sl (pc + 2) L (.int x :: st)) : zW G X h cl sl pc L st :=
  fun H locs ls hR hl hL => lv_iload o.x o.b hd (hL.get hv) (k H locs ls hR hl hL)
theorem zs_lload_n (o : zOk G X cc own nL fr lo mc ms) {k : Fin 4} {i : Nat} {x : Int64} (hd : decode cc pc = .ok (.lload_n k, 1)) (hi : (k : Nat) = i) (hv : L[i]? = some (some (.long x))) (k : zW G X h cl sl (pc + 1) L (.long x :: st)) : zW G X h cl sl pc L st :=
  fun H locs ls hR hl hL => lv_lload_n o.x o.b hd hi (hL.get hv) (k H locs ls hR hl hL)
theorem zs_lload (o : zOk G X cc own nL fr lo mc ms) {i : Nat} {x : Int64} (hd : decode cc pc = .ok (.lload i, 2)) (hv : L[i]? = some (some (.long x))) (k : zW G X h cl sl (pc + 2) L (.long x :: st)) : zW G X h cl sl pc L st :=
  fun H locs ls hR hl hL => lv_lload o.x o.b hd (hL.get hv) (k H locs ls hR hl hL)
theorem zs_fload (o : zOk G X cc own nL fr lo mc ms) {i : Nat} {x : UInt32} (hd : decode cc pc = .ok (.fload i, 2)) (hv : L[i]? = some (some (.float x))) (k : zW G X h cl sl (pc + 2) L (.float x :: st)) : zW G X h cl sl pc L st :=
  fun H locs ls hR hl hL => lv_fload o.x o.b hd (hL.get hv) (k H locs ls hR hl hL)
theorem zs_aload_n (o : zOk G X cc own nL fr lo mc ms) {k : Fin 4} {i : Nat} {x : Nat} (hd : decode cc pc = .ok (.aload_n k, 1)) (hi : (k : Nat) = i) (hv : L[i]? = some (some (zrf x))) (k : zW G X h cl sl (pc + 1) L (zrf x :: st)) : zW G X h cl sl pc L st := by
  intro H locs ls hR hl hL
  have hk := k H locs ls hR hl hL
  have hg := hL.get hv
  cases x with
  | zero => exact lv_aload_nN o.x o.b hd hi hg hk
  | succ a => exact lv_aload_n o.x o.b hd hi hg hk
theorem zs_aload (o : zOk G X cc own nL fr lo mc ms) {i : Nat} {x : Nat} (hd : decode cc pc = .ok (.aload i, 2)) (hv : L[i]? = some (some (zrf x))) (k : zW G X h cl sl (pc + 2) L (zrf x :: st)) : zW G X h cl sl pc L st := by
  intro H locs ls hR hl hL
  have hk := k H locs ls hR hl hL
  have hg := hL.get hv
  cases x with
  | zero => exact lv_aloadN o.x o.b hd hg hk
  | succ a => exact lv_aload o.x o.b hd hg hk
theorem zs_istore_n (o : zOk G X cc own nL fr lo mc ms) {k : Fin 4} {i : Nat} {x : Int32} {L' : List (Option Value)} (hd : decode cc pc = .ok (.istore_n k, 1)) (hi : (k : Nat) = i) (hn : i < nL) (hp : i = 0 ∨ zc2 L (i - 1) = false) (e : L.set i (some (.int x)) = L') (k : zW G X h cl sl (pc + 1) L' st) : zW G X h cl sl pc L (.int x :: st) := by
  intro H locs ls hR hl hL
  subst e
  have hml := o.ml
  exact lv_istore_n o.x o.b hd hi hL (by rw [hml]; exact hn) rfl (fun ls' h' => k H locs ls' hR hl (zls.set1 h' hp))
theorem zs_istore (o : zOk G X cc own nL fr lo mc ms) {i : Nat} {x : Int32} {L' : List (Option Value)} (hd : decode cc pc = .ok (.istore i, 2)) (hn : i < nL) (hp : i = 0 ∨ zc2 L (i - 1) = false) (e : L.set i (some (.int x)) = L') (k : zW G X h cl sl (pc + 2) L' st) : zW G X h cl sl pc L (.int x :: st) := by
  intro H locs ls hR hl hL
  subst e
  have hml := o.ml
  exact lv_istore o.x o.b hd hL (by rw [hml]; exact hn) rfl (fun ls' h' => k H locs ls' hR hl (zls.set1 h' hp))
theorem zs_lstore_n (o : zOk G X cc own nL fr lo mc ms) {k : Fin 4} {i : Nat} {x : Int64} {L' : List (Option Value)} (hd : decode cc pc = .ok (.lstore_n k, 1)) (hi : (k : Nat) = i) (hn : i + 1 < nL) (hp : i = 0 ∨ zc2 L (i - 1) = false) (e : (L.set i (some (.long x))).set (i + 1) none = L') (k : zW G X h cl sl (pc + 1) L' st) : zW G X h cl sl pc L (.long x :: st) := by
  intro H locs ls hR hl hL
  subst e
  have hml := o.ml
  exact lv_lstore_n o.x o.b hd hi hL (by rw [hml]; exact hn) rfl (fun ls' h' => k H locs ls' hR hl (zls.set2 h' hp))
theorem zs_lstore (o : zOk G X cc own nL fr lo mc ms) {i : Nat} {x : Int64} {L' : List (Option Value)} (hd : decode cc pc = .ok (.lstore i, 2)) (hn : i + 1 < nL) (hp : i = 0 ∨ zc2 L (i - 1) = false) (e : (L.set i (some (.long x))).set (i + 1) none = L') (k : zW G X h cl sl (pc + 2) L' st) : zW G X h cl sl pc L (.long x :: st) := by
  intro H locs ls hR hl hL
  subst e
  have hml := o.ml
  exact lv_lstore o.x o.b hd hL (by rw [hml]; exact hn) rfl (fun ls' h' => k H locs ls' hR hl (zls.set2 h' hp))
theorem zs_astore_n (o : zOk G X cc own nL fr lo mc ms) {k : Fin 4} {i : Nat} {x : Nat} {L' : List (Option Value)} (hd : decode cc pc = .ok (.astore_n k, 1)) (hi : (k : Nat) = i) (hn : i < nL) (hp : i = 0 ∨ zc2 L (i - 1) = false) (e : L.set i (some (zrf x)) = L') (k : zW G X h cl sl (pc + 1) L' st) : zW G X h cl sl pc L (zrf x :: st) := by
  intro H locs ls hR hl hL
  subst e
  have hml := o.ml
  cases x with
  | zero => exact lv_astore_nN o.x o.b hd hi hL (by rw [hml]; exact hn) rfl (fun ls' h' => k H locs ls' hR hl (zls.set1 h' hp))
  | succ a => exact lv_astore_n o.x o.b hd hi hL (by rw [hml]; exact hn) rfl (fun ls' h' => k H locs ls' hR hl (zls.set1 h' hp))
theorem zs_astore (o : zOk G X cc own nL fr lo mc ms) {i : Nat} {x : Nat} {L' : List (Option Value)} (hd : decode cc pc = .ok (.astore i, 2)) (hn : i < nL) (hp : i = 0 ∨ zc2 L (i - 1) = false) (e : L.set i (some (zrf x)) = L') (k : zW G X h cl sl (pc + 2) L' st) : zW G X h cl sl pc L (zrf x :: st) := by
  intro H locs ls hR hl hL
  subst e
  have hml := o.ml
  cases x with
  | zero => exact lv_astoreN o.x o.b hd hL (by rw [hml]; exact hn) rfl (fun ls' h' => k H locs ls' hR hl (zls.set1 h' hp))
  | succ a => exact lv_astore o.x o.b hd hL (by rw [hml]; exact hn) rfl (fun ls' h' => k H locs ls' hR hl (zls.set1 h' hp))
theorem zs_fstore (o : zOk G X cc own nL fr lo mc ms) {i : Nat} {x : UInt32} {L' : List (Option Value)} (hd : decode cc pc = .ok (.fstore i, 2)) (hn : i < nL) (hp : i = 0 ∨ zc2 L (i - 1) = false) (e : L.set i (some (.float x)) = L') (k : zW G X h cl sl (pc + 2) L' st) : zW G X h cl sl pc L (.float x :: st) := by
  intro H locs ls hR hl hL
  subst e
  have hml := o.ml
  exact lv_fstore o.x o.b hd hL (by rw [hml]; exact hn) rfl (fun ls' h' => k H locs ls' hR hl (zls.set1 h' hp))
theorem zs_iinc (o : zOk G X cc own nL fr lo mc ms) {i : Nat} {n : Int} {x v : Int32} {L' : List (Option Value)} (hd : decode cc pc = .ok (.iinc i n, 3)) (hx : L[i]? = some (some (.int x))) (hv : x + Int32.ofInt n = v) (hn : i < nL) (hp : i = 0 ∨ zc2 L (i - 1) = false) (e : L.set i (some (.int v)) = L') (k : zW G X h cl sl (pc + 3) L' st) : zW G X h cl sl pc L st := by
  intro H locs ls hR hl hL
  subst e
  have hml := o.ml
  have hm : (i, Value.int x) ∈ zasc 0 L := (zasc_mem L 0 (i, .int x)).mpr ⟨Nat.zero_le _, by simpa using hx⟩
  obtain ⟨k0, hk0⟩ := List.getElem?_of_mem hm
  exact lv_iinc o.x o.b hd hL hk0 hv (by rw [hml]; exact hn) rfl (fun ls' h' => k H locs ls' hR hl (zls.set1 h' hp))
theorem zs_acmp_eq (o : zOk G X cc own nL fr lo mc ms) {x y : Nat} {off : Int} {tgt : Nat} (hdg : decode cc pc = .ok (.if_acmp .eq off, 3)) (ht : (pc : Int) + off = (tgt : Int)) (kt : x = y → zW G X h cl sl tgt L st) (kf : ¬ x = y → zW G X h cl sl (pc + 3) L st) : zW G X h cl sl pc L (zrf y :: zrf x :: st) := by
  intro H locs ls hR hl hL
  have e : ∀ z, zrf z = va_rf (match z with | 0 => none | a + 1 => some a) := fun z => by cases z <;> rfl
  rw [e x, e y]
  refine lv_acmp_eq o.x o.b hdg ht (fun c => kt ?_ H locs ls hR hl hL) (fun c => kf (fun c' => c ?_) H locs ls hR hl hL)
  · cases x <;> cases y <;> simp_all
  · rw [c']
theorem zs_acmp_ne (o : zOk G X cc own nL fr lo mc ms) {x y : Nat} {off : Int} {tgt : Nat} (hdg : decode cc pc = .ok (.if_acmp .ne off, 3)) (ht : (pc : Int) + off = (tgt : Int)) (kt : ¬ x = y → zW G X h cl sl tgt L st) (kf : x = y → zW G X h cl sl (pc + 3) L st) : zW G X h cl sl pc L (zrf y :: zrf x :: st) := by
  intro H locs ls hR hl hL
  have e : ∀ z, zrf z = va_rf (match z with | 0 => none | a + 1 => some a) := fun z => by cases z <;> rfl
  rw [e x, e y]
  refine lv_acmp_ne o.x o.b hdg ht (fun c => kt (fun c' => c ?_) H locs ls hR hl hL) (fun c => kf ?_ H locs ls hR hl hL)
  · rw [c']
  · cases x <;> cases y <;> simp_all
theorem zs_ifnull (o : zOk G X cc own nL fr lo mc ms) {x : Nat} {off : Int} {tgt : Nat} (hd : decode cc pc = .ok (.ifnull off, 3)) (ht : (pc : Int) + off = (tgt : Int)) (kt : x = 0 → zW G X h cl sl tgt L st) (kf : ¬ x = 0 → zW G X h cl sl (pc + 3) L st) : zW G X h cl sl pc L (zrf x :: st) := by
  intro H locs ls hR hl hL
  cases x with
  | zero => exact lv_ifnullN o.x o.b hd ht (kt rfl H locs ls hR hl hL)
  | succ a => exact lv_ifnull o.x o.b hd (kf (Nat.succ_ne_zero a) H locs ls hR hl hL)
theorem zs_ifnonnull (o : zOk G X cc own nL fr lo mc ms) {x : Nat} {off : Int} {tgt : Nat} (hd : decode cc pc = .ok (.ifnonnull off, 3)) (ht : (pc : Int) + off = (tgt : Int)) (kt : ¬ x = 0 → zW G X h cl sl tgt L st) (kf : x = 0 → zW G X h cl sl (pc + 3) L st) : zW G X h cl sl pc L (zrf x :: st) := by
  intro H locs ls hR hl hL
  cases x with
  | zero => exact lv_ifnonnullN o.x o.b hd (kf rfl H locs ls hR hl hL)
  | succ a => exact lv_ifnonnull o.x o.b hd ht (kt (Nat.succ_ne_zero a) H locs ls hR hl hL)
theorem zs_topi {x : Int32} (k : ∀ y, y = x → zW G X h cl sl pc L (.int y :: st)) : zW G X h cl sl pc L (.int x :: st) := k x rfl
theorem zs_topl {x : Int64} (k : ∀ y, y = x → zW G X h cl sl pc L (.long y :: st)) : zW G X h cl sl pc L (.long x :: st) := k x rfl
theorem zs_topr {x : Nat} (k : ∀ y, y = x → zW G X h cl sl pc L (zrf y :: st)) : zW G X h cl sl pc L (zrf x :: st) := k x rfl
end ZW

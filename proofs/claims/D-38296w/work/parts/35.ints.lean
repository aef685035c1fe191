/-! MORE CALL ROWS: constants as receivers, overridden methods, getClass by an interface; small Integers; places in lists; iterators -/
set_option maxRecDepth 100000
/-- a receiver known to be of a kind -/
def jRC (g : jG) (Y : jY) (wss : List va_W) (C : String) (b : Nat) : Prop := ∀ (H : Heap) (locs : List Loc), jW g Y wss H locs → ∃ cell : Cell, H[b]? = some cell ∧ cell.vm.isStatics = false ∧ (yS Y).vm.findClass C = some cell.cls
abbrev icA (g : jG) (p : Nat) : Nat := jad g (10 + (p + 128))
section JC2
variable {g : jG} {Y : jY} {bg : va_W} {own : String} {cc : ByteArray} {lev U : Nat} {wss : List va_W} {u uc pc q : Nat} {L : List (Option Value)} {st : List Value}
theorem jRC.int (o : jOk g Y bg own cc lev U) {k : Nat} (hk : k < 256) : jRC g Y wss "java/lang/Integer" (jad g (10 + k)) := by
  intro H locs hw
  obtain ⟨-, -, -, -, -, -, -, hC, -⟩ := o.kf
  obtain ⟨cell, h1, h2, h3, h4⟩ := hC.1 k hk
  exact ⟨cell, by rw [hw.2.2.2.1 _ (Array.getElem?_eq_some_iff.mp h1).1 h4]; exact h1, h2, h3⟩
theorem jRC.m (o : jOk g Y bg own cc lev U) {a ci : Nat} {fs : List Value} {r : vw_C} (hm : jM Y bg wss (a, .inr (ci, fs))) (hc : CL[ci]? = some r) : jRC g Y wss r.1 a := fun _ _ hw => jrecv o hw hm hc
theorem j_callVc (o : jOk g Y bg own cc lev U) {y : MethodName} {idx maxL lv : Nat} {bytes : ByteArray} {ret : Option FieldType} {As : List Value} {post : Option Value → List va_W → Prop} {rest stk : List Value} {b : Nat} (hct : Ctr (yL Y) g y bytes maxL ret lv uc (.ref b :: As) (wss.flatten ++ bg) [] post) (hd : decode cc pc = .ok (.invokevirtual idx, 3)) (hl : Cond.methodLink own idx y ∈ lw_all) (hW : jVW y bytes maxL ret) (hmd : jMd y As.length) (hm : jRC g Y wss y.cls b) (hstk : stk = As.reverse ++ .ref b :: rest) (hlv : lv + 1 ≤ lev) (hml : maxL ≤ 45) (hu : u + uc ≤ U) (hst : (rest.map fun v => v.category).sum ≤ 8) (e : pc + 3 = q) (k : ∀ v wd, post v wd → J g Y (wd ++ wss) (u + uc) q L (v.toList ++ rest)) : J g Y wss u pc L stk := by
  subst e
  subst hstk
  intro H locs ls hw hl2
  exact jafter (wc := []) (wr := wss) o hw (va_runV (As := As) (rest := rest) (C := y.cls) (b := b) (jS_of o) (hct H.size) (cwV As.length o.wd (lw_V hl hW.1 hW.2.1 hW.2.2.1 hW.2.2.2) rfl rfl rfl ⟨rfl, hmd.1, hmd.2.1, hmd.2.2⟩ (jroom o hlv hml)) ⟨jPre_blind, hm H locs hw, jpre_of (wc := []) (wr := wss) o hw⟩ rfl rfl hl2.1 rfl (lv_room hst) hd (junits o hu)) (fun v wd hp H1 locs1 hw1 => k v wd hp H1 locs1 ls hw1 hl2)
/-- what the reference names is another method, that y overrides -/
theorem j_callO (o : jOk g Y bg own cc lev U) {x y : MethodName} {owner : String} {idx maxL lv m0 : Nat} {bytes b0 : ByteArray} {ret r0 : Option FieldType} {As : List Value} {post : Option Value → List va_W → Prop} {rest stk : List Value} {b : Nat} (hct : Ctr (yL Y) g y bytes maxL ret lv uc (.ref b :: As) (wss.flatten ++ bg) [] post) (hd : decode cc pc = .ok (.invokevirtual idx, 3)) (hl : Cond.methodLink own idx x ∈ lw_all) (hsm : Cond.sameMethod x.cls owner x.name x.desc ∈ lw_all) (hi0 : Cond.instanceMethod ⟨owner, x.name, x.desc⟩ ∈ lw_all) (hse : Cond.selects y.cls x y ∈ lw_all) (hi : Cond.instanceMethod y ∈ lw_all) (hz : Cond.initialized y.cls ∈ lw_all) (hc : Cond.code y bytes maxL ret ∈ lw_all) (h0 : Cond.code ⟨owner, x.name, x.desc⟩ b0 m0 r0 ∈ lw_all) (hmd : owner ≠ "java/lang/invoke/MethodHandle" ∧ owner ≠ "java/lang/invoke/VarHandle" ∧ (parseMethodDescriptor x.desc).map (fun d => d.parameters.length) = some As.length) (hm : jRC g Y wss y.cls b) (hstk : stk = As.reverse ++ .ref b :: rest) (hlv : lv + 1 ≤ lev) (hml : maxL ≤ 45) (hu : u + uc ≤ U) (hst : (rest.map fun v => v.category).sum ≤ 8) (e : pc + 3 = q) (k : ∀ v wd, post v wd → J g Y (wd ++ wss) (u + uc) q L (v.toList ++ rest)) : J g Y wss u pc L stk := by
  subst e
  subst hstk
  intro H locs ls hw hl2
  have hT : GoodIn lw_all (va_wsO own idx y.cls owner x y (ws_ y bytes maxL ret)) := by
    refine lw_app ?_ (lw_meth hc)
    intro w h
    simp only [List.mem_cons, List.not_mem_nil, or_false] at h
    rcases h with rfl | rfl | rfl | rfl | rfl | rfl <;> assumption
  exact jafter (wc := []) (wr := wss) o hw (va_runU (As := As) (rest := rest) (C := y.cls) (b := b) (jS_of o) (hct H.size) (va_cwO As.length o.wd hT rfl rfl rfl h0 hmd (jroom o hlv hml)) ⟨jPre_blind, hm H locs hw, jpre_of (wc := []) (wr := wss) o hw⟩ rfl rfl hl2.1 rfl (lv_room hst) hd (junits o hu)) (fun v wd hp H1 locs1 hw1 => k v wd hp H1 locs1 ls hw1 hl2)
theorem j_castR (o : jOk g Y bg own cc lev U) {a index : Nat} {nm : String} (hd : decode cc pc = .ok (.checkcast index, 3)) (hl : Cond.classLink own index nm ∈ lw_all) (hr : jRC g Y wss nm a) (e : pc + 3 = q) (k : J g Y wss u q L (.ref a :: st)) : J g Y wss u pc L (.ref a :: st) := by
  subst e
  exact fun H locs ls hw hl2 => va_castE o.ex o.co o.ow (o.wd _ hl) (hr H locs hw) hd (k H locs ls hw hl2)
theorem j_instR (o : jOk g Y bg own cc lev U) {a index : Nat} {nm : String} (hd : decode cc pc = .ok (.instanceof index, 3)) (hl : Cond.classLink own index nm ∈ lw_all) (hr : jRC g Y wss nm a) (e : pc + 3 = q) (k : J g Y wss u q L (.int (nI 1) :: st)) : J g Y wss u pc L (.ref a :: st) := by
  subst e
  exact fun H locs ls hw hl2 => va_instE o.ex o.co o.ow (o.wd _ hl) (hr H locs hw) hd (k H locs ls hw hl2)
/-- the value of a small Integer of the cache -/
theorem j_gfInt (o : jOk g Y bg own cc lev U) {k9 index : Nat} (hk : k9 < 256) (hd : decode cc pc = .ok (.getfield index, 3)) (hl : Cond.fieldLink own index "java/lang/Integer" "value" "I" ∈ lw_all) (e : pc + 3 = q) (k : J g Y wss u q L (.int (vb_c k9) :: st)) : J g Y wss u pc L (.ref (jad g (10 + k9)) :: st) := by
  subst e
  intro H locs ls hw hl2
  obtain ⟨-, -, -, -, -, -, -, hC, -⟩ := o.kf
  exact va_getX (i := k9) (v := fun k => .int (vb_c k)) (ad := fun k => jad g (10 + k)) o.ex o.co hC.2 hk hw.2.2 o.ow (o.wd _ hl) (fun _ h => h) hd (k H locs ls hw hl2)
/-- getClass of a list, by javac's form for a receiver of an interface's type -/
theorem j_getCI (o : jOk g Y bg own cc lev U) (hlv : 1 ≤ lev) {a index cnt : Nat} {fs : List Value} (hd : decode cc pc = .ok (.invokeinterface index cnt, 5)) (hl : Cond.methodLink own index ⟨"java/util/Collection", "getClass", "()Ljava/lang/Class;"⟩ ∈ lw_all) (hm : jM Y bg wss (a, .inr (0, fs))) (h1 : Cond.declares Jvm.Stand.gcN ∈ lw_tbl) (h2 : Cond.interfaceMethod "java/util/Collection" "java/lang/Object" "getClass" "()Ljava/lang/Class;" ∈ lw_tbl) (h3 : Cond.selects "java/util/ArrayList" Jvm.Stand.gcN Jvm.Stand.gcN ∈ lw_all) (h4 : Cond.instanceMethod Jvm.Stand.gcN ∈ lw_all) (h5 : Cond.publicMethod Jvm.Stand.gcN ∈ lw_tbl) (h6 : Cond.unhidden "java/util/ArrayList" "getClass" "()Ljava/lang/Class;" ∈ lw_tbl) (h7 : Cond.castable "java/util/ArrayList" "java/util/Collection" ∈ lw_tbl) (h8 : Cond.native Jvm.Stand.gcN ∈ lw_all) (hst : (st.map fun v => v.category).sum ≤ 40) (e : pc + 5 = q) (k : J g Y wss u q L (.ref (jad g 5) :: st)) : J g Y wss u pc L (.ref a :: st) := by
  subst e
  intro H locs ls hw hl2 T hT X
  have hf := o.rf
  have hll := o.rl
  have hnw : nativeFrameWords "java/lang/Object" "getClass" 1 = 3 := by decide
  have hvm := o.wa.alike
  have tr : ∀ {c : Cond}, c.onTables = true → c.before #[] ((jS0 g).setVm (yS Y).vm) = true → c.before (yV Y) (yS Y) = true := by
    intro c hc h
    refine va_Nw.use hc ?_
    exact va_tabs hc (rfl : ((jS0 g).setVm (yS Y).vm).vm = (yS Y).vm) h
  have g1 : (Cond.declares Jvm.Stand.gcN).before #[] (jS0 g) = true := o.tw h1 rfl
  obtain ⟨r9, meth9, hn9, -⟩ := Cond.declares_spec g1
  have w1 : (Cond.declares Jvm.Stand.gcN).before (yV Y) (yS Y) = true := va_Nw.use rfl (o.decl h1)
  have w2 : (Cond.interfaceMethod "java/util/Collection" "java/lang/Object" "getClass" "()Ljava/lang/Class;").before (yV Y) (yS Y) = true := tr rfl (by
    have e9 : (Cond.interfaceMethod "java/util/Collection" "java/lang/Object" "getClass" "()Ljava/lang/Class;").before #[] ((jS0 g).setVm (yS Y).vm) = (Cond.interfaceMethod "java/util/Collection" "java/lang/Object" "getClass" "()Ljava/lang/Class;").before #[] (jS0 g) := by
      simp only [Cond.before, Cond.holds, Cond.value, State.vm_setVm, hvm.findClass, State.methodFound?_setVm hvm, State.methodNamed?_setVm hvm, arm_isInterface_setVm hvm]
    rw [e9]
    exact o.tw h2 rfl)
  have w5 : (Cond.publicMethod Jvm.Stand.gcN).before (yV Y) (yS Y) = true := tr rfl (by rw [Cond.publicMethod_setVm hvm]; exact o.tw h5 rfl)
  have w6 : (Cond.unhidden "java/util/ArrayList" "getClass" "()Ljava/lang/Class;").before (yV Y) (yS Y) = true := tr rfl (by rw [Cond.unhidden_setVm hvm]; exact o.tw h6 rfl)
  have w7 : (Cond.castable "java/util/ArrayList" "java/util/Collection").before (yV Y) (yS Y) = true := va_Nw.use rfl (o.cast h7)
  have w3 : (Cond.selects "java/util/ArrayList" ⟨"java/util/Collection", "getClass", "()Ljava/lang/Class;"⟩ Jvm.Stand.gcN).before (yV Y) (yS Y) = true := by
    have g3 := o.wd _ h3
    obtain ⟨mk, methM, hnamed, -⟩ := Cond.instanceMethod_spec (o.wd _ h4)
    obtain ⟨cL, kL, r1, hcL, hkL, hiL, hfoundL, hn1⟩ := Cond.interfaceMethod_spec w2
    have hfo : (yS Y).methodFound? Jvm.Stand.gcN.cls Jvm.Stand.gcN.name Jvm.Stand.gcN.desc = some mk := State.methodFound?_of_named hnamed (by decide)
    have e9 : r1 = mk := Option.some.inj (hn1.symm.trans hnamed)
    subst e9
    simp only [Cond.before, Cond.holds, Cond.value] at g3 ⊢
    rw [hfo] at g3
    rw [hfoundL]
    exact g3
  obtain ⟨cell, c1, c2, c3⟩ := jrecv o hw hm (rfl : CL[0]? = some (RJ2, TJ2, 3))
  obtain ⟨-, -, -, -, -, -, -, -, ⟨cC, kC, m1, m2, m3⟩, -⟩ := o.kr
  cases m1.symm.trans c3
  obtain ⟨vm', X', st9⟩ := X.getClassOfI o.ex (C := "java/util/ArrayList") o.ow (o.wd _ hl) w1 w2 w3 (o.wd _ h4) w5 w6 w7 (o.wd _ h8) (by decide) (by decide) rfl rfl m1 m2 ⟨cell, by rw [hT]; exact c1, rfl, c2⟩ m3 (g := F0 (yM Y) pc ls (.ref a :: st)) rfl (by rw [o.ml]; exact hl2.1) (rest := st) rfl (by rw [o.co]; exact hd) (by omega) (by show 2 * 0 + _ + (nativeFrameWords "java/lang/Object" "getClass" 1 + 11) ≤ _; rw [hnw]; omega)
  obtain ⟨t, a1, b1⟩ := k H locs ls hw hl2 (T.setVm vm') hT X'
  exact ⟨t, st9 t a1, b1⟩
end JC2

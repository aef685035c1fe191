/-! ROWS for texts: clones, calls through a class above, constant Strings -/
set_option maxRecDepth 100000
section JCLN
variable {p : Program} {l : Launch} {e : Env} {R : Room} {s : State} {m : MethodId} {args : Array Value} {below : List Frame} {meth : Method} {c : Code} {H : Heap} {locs : List Loc} {cells slots : Nat} {Q : State → Prop}
variable {cc : ByteArray} {pc : Nat} {ls : Array Slot} {rest : List Value} {D : va_G} {cl : List vw_C} {A : Nat → Prop} {a : Nat} {tys : List (ClassId × FieldType)} {ws : va_W} {H0 : Heap}
/-- follows the kit's va_clone; the source may lie in the background -/
theorem jw_clone (hexec : p.tables.exec = Jvm.exec) (hb : c.code = cc) (hml : c.maxLocals = ls.size) {own ad : String} {index : Nat} (hown : s.vm.findClass own = some m.cls)
    (hlink : (Cond.methodLink own index ⟨ad, "clone", "()Ljava/lang/Object;"⟩).before args s = true) (hsame : (Cond.sameMethod ad "java/lang/Object" "clone" "()Ljava/lang/Object;").before args s = true)
    (hnat : (Cond.native ⟨"java/lang/Object", "clone", "()Ljava/lang/Object;"⟩).before args s = true) (hinst : (Cond.instanceMethod ⟨"java/lang/Object", "clone", "()Ljava/lang/Object;"⟩).before args s = true)
    (hsel : (Cond.selects ad ⟨ad, "clone", "()Ljava/lang/Object;"⟩ ⟨"java/lang/Object", "clone", "()Ljava/lang/Object;"⟩).before args s = true) (hcl : va_Nw (.castable ad "java/lang/Cloneable") s)
    (hK : va_K D cl tys s) (hP : va_P D cl ws H) (hD : va_D A ws) (hS : va_S A H0 H locs) (hA : ∀ q, H0.size ≤ q → A q) (t0 : Nat) {cA : ClassId} {x : vp_A} {ty : FieldType} (ha : va_at D cl (a, .inl (cA, x)) H) (ht : tys[t0]? = some (cA, ty))
    (hnm : s.vm.findClass ad = some cA) (hfit : ∀ (i : Nat) (v : Value), (vp_cell cA x).slots[i]? = some v → Jvm.fits ty v = true)
    (hframes : 1 ≤ R.frames) (hlocals : (rest.map fun v => v.category).sum + 14 ≤ R.locals) (hcells : cells + 1 ≤ R.cells) (hslots : slots + x.1 ≤ R.slots) (hdg : decode cc pc = .ok (.invokevirtual index, 3))
    (kk : ∀ (q : Nat) (H1 : Heap), va_P D cl (ws ++ [(q, .inl (cA, x))]) H1 → va_D A (ws ++ [(q, .inl (cA, x))]) → va_S A H0 H1 locs →
      W p l e R s m args below meth c H1 locs (cells + 1) (slots + x.1) Q (F0 m (pc + 3) ls (.ref q :: rest))) : W p l e R s m args below meth c H locs cells slots Q (F0 m pc ls (.ref a :: rest)) := by
  have hsz : (vp_cell cA x).slots.size = x.1 := by
    obtain ⟨n, f | f | f | f | f⟩ := x <;> exact arrV_size _ _ _
  have hvm0 : (vp_cell cA x).vm = .none := by
    obtain ⟨n, f | f | f | f | f⟩ := x <;> rfl
  have hcl0 : (vp_cell cA x).cls = cA := by
    obtain ⟨n, f | f | f | f | f⟩ := x <;> rfl
  have hcellE : ({ cls := (vp_cell cA x).cls, slots := (vp_cell cA x).slots } : Cell) = vp_cell cA x := by
    obtain ⟨n, f | f | f | f | f⟩ := x <;> rfl
  obtain ⟨c0, t0', f1, f2, f3⟩ := Cond.castable_spec (va_Nw.use (A := args) rfl hcl)
  cases hnm.symm.trans f1
  intro T hT X
  have hcellT : T.heap[a]? = some (vp_cell cA x) := by rw [hT]; exact ha
  obtain ⟨-, kA, hkA, comp, hkind⟩ := State.isArrayOf_alike X.warmed.alike ((hK.2 t0 _ ht).1 0 (fun _ => .null))
  obtain ⟨-, kS, hkS, compS, hkindS⟩ := (hK.2 t0 _ ht).1 0 (fun _ => .null)
  obtain ⟨vm', X', st⟩ := X.cloneArray hexec hown hlink hsame hnat hinst hsel (a := a) (cell := vp_cell cA x) hcellT (fun k h => by rw [hvm0] at h; cases h) (by rw [hvm0]; exact fun h => by cases h) (by rw [hcl0]; exact hnm) f2 (by rw [hcl0]; exact f3)
    (fun i v hv => by
      rw [hcl0]
      have hk' : T.vm.classes[cA]? = some kA := hkA
      simpa [State.fitsSlot, State.slotType?, hk', hkind] using hfit i v hv)
    (g := F0 m pc ls (.ref a :: rest)) rfl (by rw [hml]) rfl (by rw [hb]; exact hdg) hframes (by show 2 * 0 + _ + 14 ≤ _; omega) hcells (by rw [hsz]; exact hslots) (hloader := by rw [hcl0]; exact Vm.clonesLoader_of_array hkS hkindS)
  rw [hcellE, hsz] at X'
  generalize hH1 : H.push (vp_cell cA x) = H1
  have z1 : H1.size = H.size + 1 := by rw [← hH1, Array.size_push]
  have e1 : H1[H.size]? = some (vp_cell cA x) := by rw [← hH1, Array.getElem?_push_size]
  have o1 : ∀ q : Nat, q < H.size → H1[q]? = H[q]? := fun q hq => by rw [← hH1, Array.getElem?_push, if_neg (Nat.ne_of_lt hq)]
  have hk : ∀ (k : Nat) (y : Nat × va_E), ws[k]? = some y → H1[y.1]? = H[y.1]? := fun k y hy => o1 y.1 ((hP k y hy).lt)
  obtain ⟨t, b1, b2⟩ := kk H.size H1 ((hP.kept hk).app (fun k y hy => by
      have hz : k < 1 := (List.getElem?_eq_some_iff.mp hy).1
      rw [show k = 0 by omega] at hy
      cases hy
      exact e1)) (hD.push hP rfl (hA _ hS.1)) ⟨Nat.le_trans hS.1 (by omega), fun y h1 h2 => (o1 y (Nat.lt_of_lt_of_le h1 hS.1)).trans (hS.2.1 y h1 h2), hS.2.2⟩
    ((T.setVm vm').pushCell (vp_cell cA x)) (by rw [← hH1, ← hT]; rfl) X'
  refine ⟨t, st t ?_, b2⟩
  rw [hcellE, hT]
  exact b1
end JCLN
/-- a private method's choice on an object of a class below -/
theorem sel_priv {C : String} {y y0 : MethodName} {s : State} {args : Array Value} (hy : y.cls ≠ "java/lang/invoke/MethodHandle" ∧ y.cls ≠ "java/lang/invoke/VarHandle") (h0 : (Cond.selects C y0 y0).before args s = true) (e0 : y0.cls = y.cls) (hy0 : y0.cls ≠ "java/lang/invoke/MethodHandle" ∧ y0.cls ≠ "java/lang/invoke/VarHandle") (hpriv : (Cond.privateMethod y).before args s = true) (hinst : (Cond.instanceMethod y).before args s = true) : (Cond.selects C y y).before args s = true := by
  obtain ⟨c, r, m0, hc, -, hm0, -, mk0, hk, hni⟩ := Cond.selects_spec h0
  obtain ⟨mk, methM, hnamed, hmethM, -, -⟩ := Cond.instanceMethod_spec hinst
  have hfound : s.methodFound? y.cls y.name y.desc = some mk := State.methodFound?_of_named hnamed hy
  have hcls : m0.cls = mk.cls := by
    have h1 := findClass_of_methodNamed hm0
    have h2 := findClass_of_methodNamed hnamed
    rw [e0] at h1
    exact Option.some.inj (h1.symm.trans h2)
  have hsel : selectMethod {} s.vm c mk = .method mk := selectMethod_private hmethM (Cond.privateMethod_at hpriv mk methM hnamed hmethM)
  rw [hcls] at hk
  simp only [Cond.before, Cond.holds, Cond.value, hc, hfound, hnamed, hsel, hk]
  simp
  exact hni
section JSR
variable {g : jG} {Y : jY} {bg : va_W} {own : String} {cc : ByteArray} {lev U : Nat} {wss : List va_W} {u uc pc q : Nat} {L : List (Option Value)} {st : List Value}
theorem jOk.selp (o : jOk g Y bg own cc lev U) {C : String} {y y0 : MethodName} (hy : y.cls ≠ "java/lang/invoke/MethodHandle" ∧ y.cls ≠ "java/lang/invoke/VarHandle") (h0 : Cond.selects C y0 y0 ∈ lw_all) (e0 : y0.cls = y.cls) (hpriv : Cond.privateMethod y ∈ lw_tbl) (hinst : Cond.instanceMethod y ∈ lw_all) : (Cond.selects C y y).before (yV Y) (yS Y) = true :=
  word_at (s := jS0 g) (args := #[Value.ref g.2.2.2.1]) o.wa (Or.inl rfl) (sel_priv hy (o.gs.2.2.1 _ (List.mem_filter.mp h0).1) e0 (by rw [e0]; exact hy) (o.gs.2.2.1 _ hpriv) (o.gs.2.2.1 _ (List.mem_filter.mp hinst).1))
/-- the receiver's class is another one than the method's own -/
theorem j_callC (o : jOk g Y bg own cc lev U) {C : String} {y : MethodName} {idx maxL lv : Nat} {bytes : ByteArray} {ret : Option FieldType} {As : List Value} {wc wr : List va_W} {post : Option Value → List va_W → Prop} {rest stk : List Value} {b : Nat} (hct : Ctr (yL Y) g y bytes maxL ret lv uc (.ref b :: As) (wr.flatten ++ bg) wc post) (hd : decode cc pc = .ok (.invokevirtual idx, 3)) (hl : Cond.methodLink own idx y ∈ lw_all) (hin : Cond.instanceMethod y ∈ lw_all) (hse : (Cond.selects C y y).before (yV Y) (yS Y) = true) (hini : Cond.initialized y.cls ∈ lw_all) (hco : Cond.code y bytes maxL ret ∈ lw_all) (hmd : jMd y As.length) (hm : jRC g Y (wc ++ wr) C b) (hstk : stk = As.reverse ++ .ref b :: rest) (hlv : lv + 1 ≤ lev) (hml : maxL ≤ 45) (hu : u + uc ≤ U) (hst : (rest.map fun v => v.category).sum ≤ 8) (e : pc + 3 = q) (k : ∀ v wd, post v wd → J g Y (wd ++ wr) (u + uc) q L (v.toList ++ rest)) : J g Y (wc ++ wr) u pc L stk := by
  subst e
  subst hstk
  intro H locs ls hw hl2
  have hroom := jroom o (lv := lv) (maxL := maxL) (uc := uc) hlv hml
  have hcb : CallB (yR Y) (yS Y) (yV Y) own idx y bytes maxL ret (ws_ y bytes maxL ret) (jR lv uc) uc (12 * uc) As.length :=
    ⟨rfl, rfl, hroom.1, hroom.2, pay_in o.wd (lw_meth hco), List.mem_cons_self, o.wd _ hco, o.wd _ hini, ⟨hmd.1, hmd.2.1⟩, fun sig h => by
      have h2 := hmd.2.2
      rw [h] at h2
      exact (Option.some.inj h2).symm, o.wd _ hl⟩
  refine jafter o hw (va_runV (As := As) (rest := rest) (C := C) (b := b) (jS_of o) (hct H.size) ⟨hcb, o.wd _ hin, hse⟩ ⟨jPre_blind, hm H locs hw, jpre_of o hw⟩ rfl rfl hl2.1 rfl (lv_room hst) hd (junits o hu)) (fun v wd hp H1 locs1 hw1 => k v wd hp H1 locs1 ls hw1 hl2)
theorem j_callC0 (o : jOk g Y bg own cc lev U) {C : String} {y : MethodName} {idx maxL lv : Nat} {bytes : ByteArray} {ret : Option FieldType} {As : List Value} {wr : List va_W} {post : Option Value → List va_W → Prop} {rest stk : List Value} {b : Nat} (hct : Ctr (yL Y) g y bytes maxL ret lv uc (.ref b :: As) (wr.flatten ++ bg) [] post) (hd : decode cc pc = .ok (.invokevirtual idx, 3)) (hl : Cond.methodLink own idx y ∈ lw_all) (hin : Cond.instanceMethod y ∈ lw_all) (hse : (Cond.selects C y y).before (yV Y) (yS Y) = true) (hini : Cond.initialized y.cls ∈ lw_all) (hco : Cond.code y bytes maxL ret ∈ lw_all) (hmd : jMd y As.length) (hm : jRC g Y wr C b) (hstk : stk = As.reverse ++ .ref b :: rest) (hlv : lv + 1 ≤ lev) (hml : maxL ≤ 45) (hu : u + uc ≤ U) (hst : (rest.map fun v => v.category).sum ≤ 8) (e : pc + 3 = q) (k : ∀ v wd, post v wd → J g Y (wd ++ wr) (u + uc) q L (v.toList ++ rest)) : J g Y wr u pc L stk := j_callC (wc := []) o hct hd hl hin hse hini hco hmd hm hstk hlv hml hu hst e k
theorem j_callC1 (o : jOk g Y bg own cc lev U) {C : String} {y : MethodName} {idx maxL lv : Nat} {bytes : ByteArray} {ret : Option FieldType} {As : List Value} {w0 : va_W} {wr : List va_W} {post : Option Value → List va_W → Prop} {rest stk : List Value} {b : Nat} (hct : Ctr (yL Y) g y bytes maxL ret lv uc (.ref b :: As) (wr.flatten ++ bg) [w0] post) (hd : decode cc pc = .ok (.invokevirtual idx, 3)) (hl : Cond.methodLink own idx y ∈ lw_all) (hin : Cond.instanceMethod y ∈ lw_all) (hse : (Cond.selects C y y).before (yV Y) (yS Y) = true) (hini : Cond.initialized y.cls ∈ lw_all) (hco : Cond.code y bytes maxL ret ∈ lw_all) (hmd : jMd y As.length) (hm : jRC g Y (w0 :: wr) C b) (hstk : stk = As.reverse ++ .ref b :: rest) (hlv : lv + 1 ≤ lev) (hml : maxL ≤ 45) (hu : u + uc ≤ U) (hst : (rest.map fun v => v.category).sum ≤ 8) (e : pc + 3 = q) (k : ∀ v wd, post v wd → J g Y (wd ++ wr) (u + uc) q L (v.toList ++ rest)) : J g Y (w0 :: wr) u pc L stk := j_callC (wc := [w0]) o hct hd hl hin hse hini hco hmd hm hstk hlv hml hu hst e k
/-- super.m(..) -/
theorem j_callSup (o : jOk g Y bg own cc lev U) {ci : Nat} {r9 : vw_C} {y : MethodName} {idx maxL lv : Nat} {bytes : ByteArray} {ret : Option FieldType} {As : List Value} {wc wr : List va_W} {post : Option Value → List va_W → Prop} {rest stk : List Value} {b : Nat} {fs : List Value} (hct : Ctr (yL Y) g y bytes maxL ret lv uc (.ref b :: As) (wr.flatten ++ bg) wc post) (hd : decode cc pc = .ok (.invokespecial idx, 3)) (hl : Cond.methodLink own idx y ∈ lw_all) (hsm : Cond.sameMethod y.cls y.cls y.name y.desc ∈ lw_all) (hsu : Cond.superclass own y.cls ∈ lw_all) (hin : Cond.instanceMethod y ∈ lw_all) (hini : Cond.initialized y.cls ∈ lw_all) (hco : Cond.code y bytes maxL ret ∈ lw_all) (hmd : y.name ≠ "<init>" ∧ (parseMethodDescriptor y.desc).map (fun d => d.parameters.length) = some As.length) (hm : jM Y bg (wc ++ wr) (b, .inr (ci, fs))) (hci : CL[ci]? = some r9) (hstk : stk = As.reverse ++ .ref b :: rest) (hlv : lv + 1 ≤ lev) (hml : maxL ≤ 45) (hu : u + uc ≤ U) (hst : (rest.map fun v => v.category).sum ≤ 8) (e : pc + 3 = q) (k : ∀ v wd, post v wd → J g Y (wd ++ wr) (u + uc) q L (v.toList ++ rest)) : J g Y (wc ++ wr) u pc L stk := by
  subst e
  subst hstk
  intro H locs ls hw hl2
  have hT : GoodIn lw_all (va_wsSU own idx y (ws_ y bytes maxL ret)) := by
    refine lw_app ?_ (lw_meth hco)
    intro w h
    simp only [List.mem_cons, List.not_mem_nil, or_false] at h
    rcases h with rfl | rfl | rfl | rfl | rfl
    · exact hl
    · exact hsm
    · exact hsu
    · exact hin
    · exact hini
  refine jafter o hw (va_runSU (As := As) (rest := rest) (C := r9.1) (b := b) (o.ka.1 ci _ hci).2 (jS_of o) (hct H.size) (va_cwSU As.length o.wd hT rfl rfl rfl hmd (jroom o hlv hml)) ⟨jPre_blind, jrecv o hw hm hci, jpre_of o hw⟩ rfl rfl hl2.1 rfl (lv_room hst) hd (junits o hu)) (fun v wd hp H1 locs1 hw1 => k v wd hp H1 locs1 ls hw1 hl2)
theorem j_callSup1 (o : jOk g Y bg own cc lev U) {ci : Nat} {r9 : vw_C} {y : MethodName} {idx maxL lv : Nat} {bytes : ByteArray} {ret : Option FieldType} {As : List Value} {w0 : va_W} {wr : List va_W} {post : Option Value → List va_W → Prop} {rest stk : List Value} {b : Nat} {fs : List Value} (hct : Ctr (yL Y) g y bytes maxL ret lv uc (.ref b :: As) (wr.flatten ++ bg) [w0] post) (hd : decode cc pc = .ok (.invokespecial idx, 3)) (hl : Cond.methodLink own idx y ∈ lw_all) (hsm : Cond.sameMethod y.cls y.cls y.name y.desc ∈ lw_all) (hsu : Cond.superclass own y.cls ∈ lw_all) (hin : Cond.instanceMethod y ∈ lw_all) (hini : Cond.initialized y.cls ∈ lw_all) (hco : Cond.code y bytes maxL ret ∈ lw_all) (hmd : y.name ≠ "<init>" ∧ (parseMethodDescriptor y.desc).map (fun d => d.parameters.length) = some As.length) (hm : jM Y bg (w0 :: wr) (b, .inr (ci, fs))) (hci : CL[ci]? = some r9) (hstk : stk = As.reverse ++ .ref b :: rest) (hlv : lv + 1 ≤ lev) (hml : maxL ≤ 45) (hu : u + uc ≤ U) (hst : (rest.map fun v => v.category).sum ≤ 8) (e : pc + 3 = q) (k : ∀ v wd, post v wd → J g Y (wd ++ wr) (u + uc) q L (v.toList ++ rest)) : J g Y (w0 :: wr) u pc L stk := j_callSup (wc := [w0]) o hct hd hl hsm hsu hin hini hco hmd hm hci hstk hlv hml hu hst e k
theorem j_callSup0 (o : jOk g Y bg own cc lev U) {ci : Nat} {r9 : vw_C} {y : MethodName} {idx maxL lv : Nat} {bytes : ByteArray} {ret : Option FieldType} {As : List Value} {wr : List va_W} {post : Option Value → List va_W → Prop} {rest stk : List Value} {b : Nat} {fs : List Value} (hct : Ctr (yL Y) g y bytes maxL ret lv uc (.ref b :: As) (wr.flatten ++ bg) [] post) (hd : decode cc pc = .ok (.invokespecial idx, 3)) (hl : Cond.methodLink own idx y ∈ lw_all) (hsm : Cond.sameMethod y.cls y.cls y.name y.desc ∈ lw_all) (hsu : Cond.superclass own y.cls ∈ lw_all) (hin : Cond.instanceMethod y ∈ lw_all) (hini : Cond.initialized y.cls ∈ lw_all) (hco : Cond.code y bytes maxL ret ∈ lw_all) (hmd : y.name ≠ "<init>" ∧ (parseMethodDescriptor y.desc).map (fun d => d.parameters.length) = some As.length) (hm : jM Y bg wr (b, .inr (ci, fs))) (hci : CL[ci]? = some r9) (hstk : stk = As.reverse ++ .ref b :: rest) (hlv : lv + 1 ≤ lev) (hml : maxL ≤ 45) (hu : u + uc ≤ U) (hst : (rest.map fun v => v.category).sum ≤ 8) (e : pc + 3 = q) (k : ∀ v wd, post v wd → J g Y (wd ++ wr) (u + uc) q L (v.toList ++ rest)) : J g Y wr u pc L stk := j_callSup (wc := []) o hct hd hl hsm hsu hin hini hco hmd hm hci hstk hlv hml hu hst e k
/-- a clone of an array of numbers -/
theorem j_clone (o : jOk g Y bg own cc lev U) (hlv : 1 ≤ lev) {ad : String} {index a N : Nat} {f : Nat → Int32} {ty : FieldType} (t n : Nat) (hd : decode cc pc = .ok (.invokevirtual index, 3)) (hl : Cond.methodLink own index ⟨ad, "clone", "()Ljava/lang/Object;"⟩ ∈ lw_all) (hs : Cond.sameMethod ad "java/lang/Object" "clone" "()Ljava/lang/Object;" ∈ lw_all) (hse : Cond.selects ad ⟨ad, "clone", "()Ljava/lang/Object;"⟩ ⟨"java/lang/Object", "clone", "()Ljava/lang/Object;"⟩ ∈ lw_all) (hca : Cond.castable ad "java/lang/Cloneable" ∈ lw_tbl) (ht : (jT g)[t]? = some (g.2.1 t, ty)) (hnm : (yS Y).vm.findClass ad = some (g.2.1 t)) (hm : jM Y bg wss (a, eA g t N f)) (hfit : ∀ i, i < N → Jvm.fits ty (.int (f i)) = true) (hst : (st.map fun v => v.category).sum ≤ 8) (hu : u + n ≤ U) (hn : 1 ≤ n ∧ N ≤ 12 * n) (e : pc + 3 = q) (k : ∀ b : Nat, jB g ≤ b → J g Y ([(b, eA g t N f)] :: wss) (u + n) q L (.ref b :: st)) : J g Y wss u pc L (.ref a :: st) := by
  subst e
  intro H locs ls hw hl2
  have hc := o.rc
  have hss := o.rs
  have hf := o.rf
  have hll := o.rl
  have hx : (((N, .inl f) : vp_A)).1 = N := rfl
  refine jw_clone o.ex o.co (by rw [o.ml, hl2.1]) o.ow (o.wd _ hl) (o.wd _ hs) (o.wd _ q770) (o.wd _ q771) (o.wd _ hse) (o.cast hca) o.ka hw.1 hw.2.1 hw.2.2 o.a1 t (jM_at o hw hm) ht hnm (fun i v hv => ?_) (by omega) (by omega) (by omega) (by rw [hx]; omega) hd (fun b H1 p1 p2 p3 => ?_)
  · have h1 : (vp_cell (g.2.1 t) (N, .inl f)).slots[i]? = some v := hv
    have h2 : i < N := by
      have h3 := (Array.getElem?_eq_some_iff.mp h1).1
      have h4 : (vp_cell (g.2.1 t) ((N, .inl f) : vp_A)).slots.size = N := arrV_size _ _ _
      omega
    have h5 : (vp_cell (g.2.1 t) ((N, .inl f) : vp_A)).slots[i]? = some (.int (f i)) := by
      show (arrV (g.2.1 t) N (fun j => .int (f j))).slots[i]? = _
      simp [arrV, h2]
    rw [h5] at h1
    cases h1
    exact hfit i h2
  · have hb : jB g ≤ b := o.a0 b (p2.2 wss.flatten.length _ (by rw [List.getElem?_append_right (Nat.le_refl _), Nat.sub_self]; rfl))
    exact W.widen (by omega) (by rw [hx]; omega) (k b hb H1 locs ls (jpush p1 p2 p3) hl2)
theorem j_ldcwS (o : jOk g Y bg own cc lev U) {tx : String} {index a : Nat} (hd : decode cc pc = .ok (.ldc_w index, 3)) (hR : vk_R own index tx a (yS Y)) (e : pc + 3 = q) (k : J g Y wss u q L (.ref a :: st)) : J g Y wss u pc L st := by
  subst e
  intro H locs ls hw hl2 T hT X
  obtain ⟨t, a1, b1⟩ := k H locs ls hw hl2 T hT X
  exact ⟨t, X.ldcStringW o.ex o.ow (text := tx) (a := a) hR.1 hR.2 (g := F0 (yM Y) pc ls st) rfl (by rw [o.co]; exact hd) t a1, b1⟩
/-- the constant Strings -/
theorem jOk.ks (o : jOk g Y bg own cc lev U) : vk_S 4 [1, 0, 1, 1] [[45], [], [124], [32]] (fun i => jad g (300 + i)) (fun i => jad g (310 + i)) (yA Y) (yS Y) (yS Y).heap := o.kf.2.2.2.2.2.2.2.2.2.2.2.2.2.1
theorem jRC.str (o : jOk g Y bg own cc lev U) {i : Nat} (hi : i < 4) : jRC g Y wss "java/lang/String" (jad g (300 + i)) := fun H locs hw => vk_recv (i := i) o.ks hi hw.2.2
theorem j_ksf (o : jOk g Y bg own cc lev U) {i index : Nat} {n d : String} {v : Value} (hd : decode cc pc = .ok (.getfield index, 3)) (hE : va_OF "java/lang/String" n d v (jad g (300 + i)) (yA Y) (yS Y) (yS Y).heap) (hl : Cond.fieldLink own index "java/lang/String" n d ∈ lw_all) (e : pc + 3 = q) (k : J g Y wss u q L (v :: st)) : J g Y wss u pc L (.ref (jad g (300 + i)) :: st) := by
  subst e
  exact fun H locs ls hw hl2 => vk_getf o.ex o.co hE hw.2.2 o.ow (o.wd _ hl) (fun _ h => h) hd (k H locs ls hw hl2)
theorem j_copyT (o : jOk g Y bg own cc lev U) (hlv : 1 ≤ lev) {index a0 a n0 n1 sp dp n : Nat} {f f1 : Nat → Int32} {w : va_W} (hd : decode cc pc = .ok (.invokestatic index, 3)) (hl : Cond.methodLink own index arraycopyName ∈ lw_all) (k9 j : Nat) (h1 : wss[k9]? = some w) (h2 : w[j]? = some (a, eA g 2 n1 f1)) (hT : va_T .byte a0 n0 (fun j => .int (f j)) (yA Y) (yS Y) (yS Y).heap) (hfit : ∀ i : Nat, i < n → Jvm.fits .byte (.int (f (sp + i))) = true) (hs1 : sp + n ≤ n0) (hs2 : dp + n ≤ n1) (hb0 : n0 < 2 ^ 31) (hb1 : n1 < 2 ^ 31) (hst : (st.map fun v => v.category).sum ≤ 40) (e : pc + 3 = q) (k : J g Y (wss.set k9 (w.set j (a, eA g 2 n1 (va_cpy f f1 sp dp n)))) u q L st) : J g Y wss u pc L (.int (nI n) :: .int (nI dp) :: .ref a :: .int (nI sp) :: .ref a0 :: st) := by
  subst e
  intro H locs ls hw hl2
  have hf := o.rf
  have hll := o.rl
  have c1 : (nI sp).toNatClampNeg = sp := nI_clamp (by omega)
  have c2 : (nI dp).toNatClampNeg = dp := nI_clamp (by omega)
  have c3 : (nI n).toNatClampNeg = n := nI_clamp (by omega)
  have hnw : nativeFrameWords "java/lang/System" "arraycopy" 5 = 7 := by decide
  refine vk_copyt o.ex o.co (by rw [o.ml, hl2.1]) o.ow (o.wd _ hl) (o.wd _ q286) (o.wd _ q285) (o.wd _ q75) o.ka hw.1 hw.2.1 hw.2.2 hT (jix wss k9 j) 2 (jfl_get wss k9 j h1 h2) rfl (nI_pos (by omega)) (nI_pos (by omega)) (nI_pos (by omega)) (by rw [c1, c3]; exact hs1) (by rw [c2, c3]; exact hs2) (fun i hi => by rw [c1]; exact hfit i (by rw [c3] at hi; exact hi)) (by omega) (by rw [hnw]; omega) hd (fun H1 locs1 p1 p2 p3 => ?_)
  rw [jfl_set wss k9 j h1 h2, c1, c2, c3] at p1 p2
  exact k H1 locs1 ls ⟨p1, p2, p3⟩ hl2
end JSR

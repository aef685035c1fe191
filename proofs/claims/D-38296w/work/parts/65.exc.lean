/-! EXCEPTIONS in the J layer: contracts of what throws (CtrX), rows (written by gen/exc.py) -/
set_option maxRecDepth 100000
/-- what a throw leaves: its class; nothing old is changed -/
def jXC (E : String) : String → State → State → Prop := fun E2 st t => E2 = E ∧ st.heap.size ≤ t.heap.size ∧ ∀ q : Nat, q < st.heap.size → t.heap[q]? = st.heap[q]?
def jXQ : Array Value → State → Outcome → State → Prop := fun _ _ _ _ => False
/-- the contract of a method that throws E here -/
def CtrX (l : Launch) (g : jG) (y : MethodName) (cc : ByteArray) (maxL : Nat) (ret : Option FieldType) (lev U : Nat) (av : List Value) (bg : va_W) (E : String) : Prop :=
  ∀ sz, vx_Met l y (ws_ y cc maxL ret) (jR lev U) (jPre g av bg [] sz) jXQ (jXC E) U (12 * U) (va_A ([] : va_W) sz)
def jRX (g : jG) (Y : jY) (U : Nat) (E : String) : Prop :=
  yA Y = va_A ([] : va_W) (yS Y).heap.size ∧ yQ Y = vx_MQ (yB Y) jXQ (jXC E) (yV Y) (yS Y) U (12 * U) (va_A ([] : va_W) (yS Y).heap.size) ∧ ∀ x ∈ (yC Y).exceptionTable.toList, False
/-- E is thrown over the frame at pc -/
def JX (g : jG) (Y : jY) (wss : List va_W) (u pc : Nat) (L : List (Option Value)) (E : String) : Prop :=
  ∀ (H : Heap) (locs : List Loc) (ls : Array Slot) (rest : List Value) (q : Addr) (ce : Cell), jW g Y wss H locs → lv_has ls (yN Y) (jlv 0 L) → H[q]? = some ce → ce.vm = .none → (yS Y).vm.findClass E = some ce.cls →
    vx_W (yP Y) (yL Y) (yE Y) (yR Y) (yS Y) (yM Y) (yV Y) (yB Y) (yH Y) (yC Y) H locs u (12 * u) (yQ Y) (F0 (yM Y) pc ls rest) q
theorem CtrX.of {l : Launch} {g : jG} {y : MethodName} {cc : ByteArray} {maxL : Nat} {ret : Option FieldType} {lev U : Nat} {av : List Value} {bg : va_W} {E : String} (L0 : List (Option Value)) (hG : GS l g) (hy : plainName y.cls = true) (hL : jlv 0 L0 = lv_args 0 av) (hn : (lg_sl av).length ≤ maxL)
    (body : ∀ Y : jY, yL Y = l → yN Y = maxL → jOk g Y bg y.cls cc lev U → jRX g Y U E → J g Y [] 0 0 L0 []) : CtrX l g y cc maxL ret lev U av bg E := by
  intro sz
  refine vx_ofW (cc := cc) (maxL := maxL) (ret := ret) hy rfl ?_
  intro p e s m args below meth c s₁ B hml ht hv
  have hsz : s.heap.size = sz := hv.2.1
  subst hsz
  obtain ⟨ho, hw⟩ := jok_entry (wc := []) (ws := ws_ y cc maxL ret) rfl (vx_MQ below jXQ (jXC E) args s U (12 * U) (va_A ([] : va_W) s.heap.size)) hG B hml hv
  have hb := body _ rfl rfl ho ⟨rfl, rfl, ht⟩
  have hav : args = av.toArray := hv.1
  subst hav
  rw [lg_entry_eq]
  exact hb s.heap [] _ hw (jl_entry hL hn)
def jtw : Cond → Bool
  | .declares _ => true
  | .castable _ _ => true
  | _ => false
/-- the words of a throw: each rides in the lists, or is one of two kinds that the tables hold -/
def jThr (own : String) (ic : Nat) (E : String) (names : List String) : Prop := ∀ w ∈ Bundle.ownAtoms0 own ic E names, vx_no w = true → w ∈ lw_all ∨ w ∈ lw_tbl ∧ jtw w = true
section JEX
variable {g : jG} {Y : jY} {bg : va_W} {own : String} {cc : ByteArray} {lev U : Nat} {wss : List va_W} {u uc pc q : Nat} {L : List (Option Value)} {st : List Value} {E : String}
theorem jOk.thr (o : jOk g Y bg own cc lev U) {ic : Nat} {names : List String} (h : jThr own ic E names) : ∀ w ∈ vx_at0 own ic E names, w.before (yV Y) (yS Y) = true := by
  intro w hw
  obtain ⟨h1, h2⟩ := List.mem_filter.mp hw
  rcases h w h1 h2 with h3 | ⟨h3, h4⟩
  · exact o.wd w h3
  · cases w <;> first | exact (o.decl h3).use rfl | exact (o.cast h3).use rfl | exact absurd h4 (by simp [jtw])
theorem jThr.ot {ic : Nat} {names : List String} (h : jThr own ic E names) : ∀ w ∈ vx_at0 own ic E names, vx_ot w = true := by
  intro w hw
  obtain ⟨h1, h2⟩ := List.mem_filter.mp hw
  rcases h w h1 h2 with h3 | ⟨h3, h4⟩
  · unfold vx_ot
    rw [(List.mem_filter.mp h3).2, Bool.or_true]
  · cases w <;> first | rfl | exact absurd h4 (by simp [jtw])
theorem jOk.zq (o : jOk g Y bg own cc lev U) {n d : String} (h1 : Cond.laysStatic "java/lang/Throwable" n d ∈ lw_tbl) (h2 : (Cond.isRef (.static "java/lang/Throwable" n d)).before #[Value.ref g.2.2.2.1] (jS0 g) = true) : vx_Zq "java/lang/Throwable" n d (yA Y) (yS Y) (yS Y).heap := by
  have h3 : vx_Zq "java/lang/Throwable" n d (fun q => jB g ≤ q) (jS0 g) (jS0 g).heap := vx_Zqof (o.gs.2.2.1 _ h1) (o.gs.2.2.1 _ (List.mem_filter.mp (q87)).1) h2 (fun a ha => Nat.not_le.mpr ha)
  exact ((h3.moved o.wa.alike).kept (fun a ha _ => o.be a ha)).narrow o.a0
theorem j_throw0 (o : jOk g Y bg own cc lev U) (rx : jRX g Y U E) {names : List String} {ik ic : Nat} (hT : jThr own ic E names) (hcls : Bundle.fit E = true) (hnames : ∀ n ∈ names, Bundle.fit n = true)
    (hk : Cond.classLink own ik E ∈ lw_all) (hini : Cond.initialized E ∈ lw_all) (d0 : decode cc pc = .ok (.new ik, 3)) (d3 : decode cc (pc + 3) = .ok (.dup, 1)) (d4 : decode cc (pc + 4) = .ok (.invokespecial ic, 3)) (d7 : decode cc (pc + 7) = .ok (.athrow, 1))
    (hn : names.length ≤ 3) (hlv : 7 ≤ lev) (hst : (st.map fun v => v.category).sum ≤ 8) (hu : u + 1 ≤ U) : J g Y wss u pc L st := by
  intro H locs ls hw hl
  obtain ⟨hA, hQ, ht⟩ := rx
  have hf := flat_of_before _ o.gs.2.2.2.1
  have hU := o.zq (n := "UNASSIGNED_STACK") (d := "[Ljava/lang/StackTraceElement;") q938 (hf _ (by decide +kernel))
  have hN := o.zq (n := "SUPPRESSED_SENTINEL") (d := "Ljava/util/List;") q940 (hf _ (by decide +kernel))
  have g1 := o.rf
  have g2 := o.rl
  have g3 := o.rc
  have g4 := o.rs
  obtain ⟨hP, hD, hS⟩ := hw
  unfold jWW
  rw [hQ]
  refine vx_throw0 (A := yA Y) (names := names) o.ex o.co o.gs.1 o.ow hcls hnames (o.wd _ hk) (o.wd _ hini) (o.thr hT) ?_ hU hN hS (hl.1.trans o.ml.symm) d0 d3 d4 d7 (fun x hx => (ht x hx).elim) (by omega) (by omega) (by omega) (by omega) o.lo ?_ ?_ hu (by omega)
  · intro w hw
    rcases List.mem_cons.mp hw with e | hw
    · rw [e]; rfl
    · rcases List.mem_cons.mp hw with e | hw
      · rw [e]; rfl
      · exact hT.ot w hw
  · intro t _ h1 h2
    refine ⟨rfl, Nat.le_trans hS.1 h1, fun q hq => ?_⟩
    rw [h2 q (Nat.lt_of_lt_of_le hq hS.1)]
    refine hS.2.1 q hq ?_
    rw [hA]
    rintro (⟨i, e, h⟩ | h)
    · simp at h
    · exact absurd hq (Nat.not_lt.mpr h)
  · intro z hz
    rw [← hA]
    exact hS.2.2 z hz
/-- not caught here -/
theorem j_outX (o : jOk g Y bg own cc lev U) (rx : jRX g Y U E) (hu : u ≤ U) : JX g Y wss u pc L E := by
  intro H locs ls rest q ce hw hl h1 h2 h3
  obtain ⟨hA, hQ, ht⟩ := rx
  obtain ⟨hP, hD, hS⟩ := hw
  rw [hQ]
  refine vx_out (fun x hx => (ht x hx).elim) o.lo h1 h2 h3 (fun t ht _ => ?_) (fun z hz => by rw [← hA]; exact hS.2.2 z hz) hu (by omega)
  refine ⟨rfl, by rw [ht]; exact hS.1, fun q hq => ?_⟩
  rw [ht]
  refine hS.2.1 q hq ?_
  rw [hA]
  rintro (⟨i, e, h⟩ | h)
  · simp at h
  · exact absurd hq (Nat.not_lt.mpr h)
def jRunX (Y : jY) (H : Heap) (locs : List Loc) (u uc : Nat) (F : JFrame) (rest : List Value) (E : String) : Prop :=
  vx_Run (yP Y) (yL Y) (yE Y) (yR Y) (yS Y) (yM Y) (yV Y) (yB Y) (yH Y) (yC Y) H locs u (12 * u) uc (12 * uc) F rest (fun _ _ _ => False) (jXC E) (va_A ([] : va_W) H.size)
theorem jafterX (o : jOk g Y bg own cc lev U) {H : Heap} {locs : List Loc} {ls : Array Slot} {rest : List Value} (hw : jW g Y wss H locs) (hl : lv_has ls (yN Y) (jlv 0 L)) (hr : jRunX Y H locs u uc (F0 (yM Y) pc ls st) rest E) (k : JX g Y wss (u + uc) pc L E) : jWW Y H locs u (F0 (yM Y) pc ls st) := by
  intro T hT X
  rcases hr T hT X with ⟨v, st₀, t, T', Ls, h0, X', hL, e1, e2, hf, stp⟩ | ⟨q9, st₀, t, T', Ls, E2, ce, h0, X', hL, e1, e2, ⟨rfl, hz, hk⟩, h1, h2, h3, stp⟩
  · exact hf.elim
  · rw [h0] at hz hk
    obtain ⟨hP, hD, hS⟩ := hw
    have hW1 : jW g Y wss T'.heap (locs ++ Ls) := by
      refine ⟨va_P_mem.mpr fun c hc => ?_, hD, Nat.le_trans hS.1 (by rw [e1]; exact hz), fun q h1 h2 => ?_, fun q hq => ?_⟩
      · have hc1 := va_P_mem.mp hP c hc
        exact hc1.kept (by rw [e1]; exact hk c.1 hc1.lt)
      · rw [e1, hk q (Nat.lt_of_lt_of_le h1 hS.1)]
        exact hS.2.1 q h1 h2
      · rcases List.mem_append.mp hq with h | h
        · exact hS.2.2 q h
        · rcases hL q h with ⟨i, e, h9⟩ | h9
          · simp at h9
          · exact o.a1 q.base (Nat.le_trans hS.1 h9)
    rw [← Nat.mul_add] at X'
    obtain ⟨t2, a1, b1⟩ := k T'.heap (locs ++ Ls) ls rest q9 ce hW1 hl (by rw [e1]; exact h1) h2 h3 T' rfl X'
    exact ⟨t2, stp.trans a1, b1⟩
theorem jpre_X (o : jOk g Y bg own cc lev U) {H : Heap} {locs : List Loc} {av : List Value} (hw : jW g Y wss H locs) : ∀ V : State, V.heap = H → (yS Y).WarmedH V.vm → jPre g av (wss.flatten ++ bg) [] H.size av.toArray V := jpre_of (wc := []) (wr := wss) o hw
theorem j_callXV (o : jOk g Y bg own cc lev U) {y : MethodName} {idx maxL lv : Nat} {bytes : ByteArray} {ret : Option FieldType} {As : List Value} {rest stk : List Value} {b ci : Nat} {fs : List Value} {r : vw_C} (hct : CtrX (yL Y) g y bytes maxL ret lv uc (.ref b :: As) (wss.flatten ++ bg) E) (hd : decode cc pc = .ok (.invokevirtual idx, 3)) (hl : Cond.methodLink own idx y ∈ lw_all) (hW : jVW y bytes maxL ret) (hmd : jMd y As.length) (hm : jM Y bg wss (b, .inr (ci, fs))) (hci : CL[ci]? = some r) (hr : r.1 = y.cls) (hstk : stk = As.reverse ++ .ref b :: rest) (hlv : lv + 1 ≤ lev) (hml : maxL ≤ 45) (hu : u + uc ≤ U) (hst : (rest.map fun v => v.category).sum ≤ 8) (k : JX g Y wss (u + uc) pc L E) : J g Y wss u pc L stk := by
  subst hstk
  intro H locs ls hw hl2
  refine jafterX (rest := rest) (uc := uc) o hw hl2 ?_ k
  exact vx_runV (As := As) (rest := rest) (C := y.cls) (b := b) (jS_of o) (hct H.size) (cwV As.length o.wd (lw_V hl hW.1 hW.2.1 hW.2.2.1 hW.2.2.2) rfl rfl rfl ⟨rfl, hmd.1, hmd.2.1, hmd.2.2⟩ (jroom o hlv hml)) ⟨jPre_blind, by rw [← hr]; exact jrecv o hw hm hci, jpre_X o hw⟩ rfl rfl hl2.1 rfl (lv_room hst) hd (junits o hu)
theorem j_callXS (o : jOk g Y bg own cc lev U) {y : MethodName} {idx maxL lv : Nat} {bytes : ByteArray} {ret : Option FieldType} {As : List Value} {rest stk : List Value} (hct : CtrX (yL Y) g y bytes maxL ret lv uc As (wss.flatten ++ bg) E) (hd : decode cc pc = .ok (.invokestatic idx, 3)) (hl : Cond.methodLink own idx y ∈ lw_all) (hW : jSW y bytes maxL ret) (hmd : jMd y As.length) (hstk : stk = As.reverse ++ rest) (hlv : lv + 1 ≤ lev) (hml : maxL ≤ 45) (hu : u + uc ≤ U) (hst : (rest.map fun v => v.category).sum ≤ 8) (k : JX g Y wss (u + uc) pc L E) : J g Y wss u pc L stk := by
  subst hstk
  intro H locs ls hw hl2
  refine jafterX (rest := rest) (uc := uc) o hw hl2 ?_ k
  exact vx_runS (As := As) (rest := rest) (jS_of o) (hct H.size) (va_cwS As.length o.wd (lw_S hl hW.1 hW.2.1 hW.2.2) rfl rfl rfl ⟨hmd.1, hmd.2.1, hmd.2.2⟩ (jroom o hlv hml)) ⟨jPre_blind, jpre_X o hw⟩ rfl rfl hl2.1 rfl (lv_room hst) hd (junits o hu)
end JEX
theorem thrT : ∀ w ∈ Bundle.throwableAtoms, vx_no w = true → w ∈ lw_all ∨ w ∈ lw_tbl ∧ jtw w = true :=
  List.forall_mem_cons.mpr ⟨(fun _ => Or.inl q87), List.forall_mem_cons.mpr ⟨(fun _ => Or.inl q933), List.forall_mem_cons.mpr ⟨(fun _ => Or.inl q942), List.forall_mem_cons.mpr ⟨(fun _ => Or.inl q947), List.forall_mem_cons.mpr ⟨(fun _ => Or.inl q950), List.forall_mem_cons.mpr ⟨(fun _ => Or.inl q952), List.forall_mem_cons.mpr ⟨(fun _ => Or.inl q934), List.forall_mem_cons.mpr ⟨(fun _ => Or.inl q935), List.forall_mem_cons.mpr ⟨(fun _ => Or.inl q110), List.forall_mem_cons.mpr ⟨(fun _ => Or.inl q111), List.forall_mem_cons.mpr ⟨(fun _ => Or.inl q936), List.forall_mem_cons.mpr ⟨(fun _ => Or.inl q941), List.forall_mem_cons.mpr ⟨(fun _ => Or.inl q948), List.forall_mem_cons.mpr ⟨(fun _ => Or.inl q973), List.forall_mem_cons.mpr ⟨(fun _ => Or.inl q923), List.forall_mem_cons.mpr ⟨(fun _ => Or.inl q974), List.forall_mem_cons.mpr ⟨(fun _ => Or.inl q925), List.forall_mem_cons.mpr ⟨(fun _ => Or.inl q975), List.forall_mem_cons.mpr ⟨(fun _ => Or.inl q927), List.forall_mem_cons.mpr ⟨(fun _ => Or.inl q937), List.forall_mem_cons.mpr ⟨(fun h => absurd h (by decide +kernel)), List.forall_mem_cons.mpr ⟨(fun _ => Or.inl q939), List.forall_mem_cons.mpr ⟨(fun h => absurd h (by decide +kernel)), List.forall_mem_cons.mpr ⟨(fun _ => Or.inl q929), (fun _ h => nomatch h)⟩⟩⟩⟩⟩⟩⟩⟩⟩⟩⟩⟩⟩⟩⟩⟩⟩⟩⟩⟩⟩⟩⟩⟩
theorem thrA : jThr "Splitpointer" 70 "java/lang/IllegalArgumentException" ["java/lang/RuntimeException", "java/lang/Exception"] :=
  List.forall_mem_append.mpr ⟨List.forall_mem_append.mpr ⟨thrT, List.forall_mem_append.mpr ⟨List.forall_mem_cons.mpr ⟨(fun _ => Or.inl q1065), List.forall_mem_cons.mpr ⟨(fun _ => Or.inl q1066), List.forall_mem_cons.mpr ⟨(fun _ => Or.inl q1067), List.forall_mem_cons.mpr ⟨(fun _ => Or.inl q1068), List.forall_mem_cons.mpr ⟨(fun _ => Or.inr ⟨q914, rfl⟩), (fun _ h => nomatch h)⟩⟩⟩⟩⟩, List.forall_mem_append.mpr ⟨List.forall_mem_cons.mpr ⟨(fun _ => Or.inl q1068), List.forall_mem_cons.mpr ⟨(fun _ => Or.inl q1069), List.forall_mem_cons.mpr ⟨(fun _ => Or.inl q1070), List.forall_mem_cons.mpr ⟨(fun _ => Or.inl q1071), List.forall_mem_cons.mpr ⟨(fun _ => Or.inr ⟨q916, rfl⟩), (fun _ h => nomatch h)⟩⟩⟩⟩⟩, List.forall_mem_cons.mpr ⟨(fun _ => Or.inl q1071), List.forall_mem_cons.mpr ⟨(fun _ => Or.inl q1072), List.forall_mem_cons.mpr ⟨(fun _ => Or.inl q1073), List.forall_mem_cons.mpr ⟨(fun _ => Or.inl q934), List.forall_mem_cons.mpr ⟨(fun _ => Or.inr ⟨q918, rfl⟩), (fun _ h => nomatch h)⟩⟩⟩⟩⟩⟩⟩⟩,
  List.forall_mem_cons.mpr ⟨(fun _ => Or.inl q1064), List.forall_mem_cons.mpr ⟨(fun _ => Or.inl q912), List.forall_mem_cons.mpr ⟨(fun _ => Or.inr ⟨q913, rfl⟩), List.forall_mem_cons.mpr ⟨(fun _ => Or.inl q920), List.forall_mem_cons.mpr ⟨(fun _ => Or.inl q921), List.forall_mem_cons.mpr ⟨(fun _ => Or.inl q922), List.forall_mem_cons.mpr ⟨(fun _ => Or.inl q924), List.forall_mem_cons.mpr ⟨(fun _ => Or.inl q926), List.forall_mem_cons.mpr ⟨(fun _ => Or.inl q928), List.forall_mem_cons.mpr ⟨(fun h => absurd h (by decide +kernel)), List.forall_mem_cons.mpr ⟨(fun h => absurd h (by decide +kernel)), List.forall_mem_cons.mpr ⟨(fun _ => Or.inl q932), List.forall_mem_cons.mpr ⟨(fun _ => Or.inl q931), List.forall_mem_cons.mpr ⟨(fun _ => Or.inl q930), (fun _ h => nomatch h)⟩⟩⟩⟩⟩⟩⟩⟩⟩⟩⟩⟩⟩⟩⟩
theorem ctxX1_mustFit {l : Launch} {g : jG} (hG : GS l g) (bg : va_W) : CtrX l g yX1_mustFit cX1_mustFit 1 none 7 1 [.int (nI 0)] bg "java/lang/IllegalArgumentException" := by
  refine CtrX.of [some (.int (nI 0))] hG (by decide +kernel) rfl (Nat.le_of_ble_eq_true rfl) (fun Y hl hN0 o r => ?_)
  subst hl
  refine j_ild_n o dX1_mustFit_0 rfl (q := 1) rfl ?_
  refine j_ifneF o (t := 12) dX1_mustFit_1 (by decide) (q := 4) rfl (by decide) ?_
  exact j_throw0 (ik := 68) o r thrA (by decide +kernel) (by decide +kernel) q1063 q90 dX1_mustFit_4 dX1_mustFit_7 dX1_mustFit_8 dX1_mustFit_11 (by decide) (by decide) (by decide) (by decide)
theorem ctX1_mustFit {l : Launch} {g : jG} (hG : GS l g) (bg : va_W) {n : Nat} (hn : n = 1) : KX1_mustFit l g 1 0 [.int (nI n)] bg [] (fun v wd => v = none ∧ wd = []) := by
  subst hn
  refine Ctr.of [some (.int (nI 1))] hG (by decide +kernel) rfl (Nat.le_of_ble_eq_true rfl) (fun Y hl hN0 o r hI => ?_)
  subst hl
  refine j_ild_n o dX1_mustFit_0 rfl (q := 1) rfl ?_
  refine j_ifneT o 12 dX1_mustFit_1 (by decide) (by decide) ?_
  exact j_vret o r dX1_mustFit_12 [] _ rfl ⟨rfl, rfl⟩ (by omega)
theorem thrS : jThr "Splitpointer" 73 "java/lang/IllegalStateException" ["java/lang/RuntimeException", "java/lang/Exception"] :=
  List.forall_mem_append.mpr ⟨List.forall_mem_append.mpr ⟨thrT, List.forall_mem_append.mpr ⟨List.forall_mem_cons.mpr ⟨(fun _ => Or.inl q1128), List.forall_mem_cons.mpr ⟨(fun _ => Or.inl q1129), List.forall_mem_cons.mpr ⟨(fun _ => Or.inl q1130), List.forall_mem_cons.mpr ⟨(fun _ => Or.inl q1068), List.forall_mem_cons.mpr ⟨(fun _ => Or.inr ⟨q914, rfl⟩), (fun _ h => nomatch h)⟩⟩⟩⟩⟩, List.forall_mem_append.mpr ⟨List.forall_mem_cons.mpr ⟨(fun _ => Or.inl q1068), List.forall_mem_cons.mpr ⟨(fun _ => Or.inl q1069), List.forall_mem_cons.mpr ⟨(fun _ => Or.inl q1070), List.forall_mem_cons.mpr ⟨(fun _ => Or.inl q1071), List.forall_mem_cons.mpr ⟨(fun _ => Or.inr ⟨q916, rfl⟩), (fun _ h => nomatch h)⟩⟩⟩⟩⟩, List.forall_mem_cons.mpr ⟨(fun _ => Or.inl q1071), List.forall_mem_cons.mpr ⟨(fun _ => Or.inl q1072), List.forall_mem_cons.mpr ⟨(fun _ => Or.inl q1073), List.forall_mem_cons.mpr ⟨(fun _ => Or.inl q934), List.forall_mem_cons.mpr ⟨(fun _ => Or.inr ⟨q918, rfl⟩), (fun _ h => nomatch h)⟩⟩⟩⟩⟩⟩⟩⟩,
  List.forall_mem_cons.mpr ⟨(fun _ => Or.inl q1127), List.forall_mem_cons.mpr ⟨(fun _ => Or.inl q1119), List.forall_mem_cons.mpr ⟨(fun _ => Or.inr ⟨q1120, rfl⟩), List.forall_mem_cons.mpr ⟨(fun _ => Or.inl q1121), List.forall_mem_cons.mpr ⟨(fun _ => Or.inl q945), List.forall_mem_cons.mpr ⟨(fun _ => Or.inl q1122), List.forall_mem_cons.mpr ⟨(fun _ => Or.inl q1123), List.forall_mem_cons.mpr ⟨(fun _ => Or.inl q1124), List.forall_mem_cons.mpr ⟨(fun _ => Or.inl q1125), List.forall_mem_cons.mpr ⟨(fun h => absurd h (by decide +kernel)), List.forall_mem_cons.mpr ⟨(fun h => absurd h (by decide +kernel)), List.forall_mem_cons.mpr ⟨(fun _ => Or.inl q932), List.forall_mem_cons.mpr ⟨(fun _ => Or.inl q931), List.forall_mem_cons.mpr ⟨(fun _ => Or.inl q1126), (fun _ h => nomatch h)⟩⟩⟩⟩⟩⟩⟩⟩⟩⟩⟩⟩⟩⟩⟩
theorem ctxX1_mustStand {l : Launch} {g : jG} (hG : GS l g) (bg : va_W) : CtrX l g yX1_mustStand cX1_mustStand 1 none 7 1 [.int (nI 0)] bg "java/lang/IllegalStateException" := by
  refine CtrX.of [some (.int (nI 0))] hG (by decide +kernel) rfl (Nat.le_of_ble_eq_true rfl) (fun Y hl hN0 o r => ?_)
  subst hl
  refine j_ild_n o dX1_mustStand_0 rfl (q := 1) rfl ?_
  refine j_ifneF o (t := 12) dX1_mustStand_1 (by decide) (q := 4) rfl (by decide) ?_
  exact j_throw0 (ik := 71) o r thrS (by decide +kernel) (by decide +kernel) q1118 q95 dX1_mustStand_4 dX1_mustStand_7 dX1_mustStand_8 dX1_mustStand_11 (by decide) (by decide) (by decide) (by decide)
theorem ctX1_mustStand {l : Launch} {g : jG} (hG : GS l g) (bg : va_W) {n : Nat} (hn : n = 1) : KX1_mustStand l g 1 0 [.int (nI n)] bg [] (fun v wd => v = none ∧ wd = []) := by
  subst hn
  refine Ctr.of [some (.int (nI 1))] hG (by decide +kernel) rfl (Nat.le_of_ble_eq_true rfl) (fun Y hl hN0 o r hI => ?_)
  subst hl
  refine j_ild_n o dX1_mustStand_0 rfl (q := 1) rfl ?_
  refine j_ifneT o 12 dX1_mustStand_1 (by decide) (by decide) ?_
  exact j_vret o r dX1_mustStand_12 [] _ rfl ⟨rfl, rfl⟩ (by omega)
theorem thrI : jThr "Splitpointer" 67 "java/lang/IndexOutOfBoundsException" ["java/lang/RuntimeException", "java/lang/Exception"] :=
  List.forall_mem_append.mpr ⟨List.forall_mem_append.mpr ⟨thrT, List.forall_mem_append.mpr ⟨List.forall_mem_cons.mpr ⟨(fun _ => Or.inl q1240), List.forall_mem_cons.mpr ⟨(fun _ => Or.inl q1241), List.forall_mem_cons.mpr ⟨(fun _ => Or.inl q1242), List.forall_mem_cons.mpr ⟨(fun _ => Or.inl q1068), List.forall_mem_cons.mpr ⟨(fun _ => Or.inr ⟨q914, rfl⟩), (fun _ h => nomatch h)⟩⟩⟩⟩⟩, List.forall_mem_append.mpr ⟨List.forall_mem_cons.mpr ⟨(fun _ => Or.inl q1068), List.forall_mem_cons.mpr ⟨(fun _ => Or.inl q1069), List.forall_mem_cons.mpr ⟨(fun _ => Or.inl q1070), List.forall_mem_cons.mpr ⟨(fun _ => Or.inl q1071), List.forall_mem_cons.mpr ⟨(fun _ => Or.inr ⟨q916, rfl⟩), (fun _ h => nomatch h)⟩⟩⟩⟩⟩, List.forall_mem_cons.mpr ⟨(fun _ => Or.inl q1071), List.forall_mem_cons.mpr ⟨(fun _ => Or.inl q1072), List.forall_mem_cons.mpr ⟨(fun _ => Or.inl q1073), List.forall_mem_cons.mpr ⟨(fun _ => Or.inl q934), List.forall_mem_cons.mpr ⟨(fun _ => Or.inr ⟨q918, rfl⟩), (fun _ h => nomatch h)⟩⟩⟩⟩⟩⟩⟩⟩,
  List.forall_mem_cons.mpr ⟨(fun _ => Or.inl q1239), List.forall_mem_cons.mpr ⟨(fun _ => Or.inl q1231), List.forall_mem_cons.mpr ⟨(fun _ => Or.inr ⟨q1232, rfl⟩), List.forall_mem_cons.mpr ⟨(fun _ => Or.inl q1233), List.forall_mem_cons.mpr ⟨(fun _ => Or.inl q946), List.forall_mem_cons.mpr ⟨(fun _ => Or.inl q1234), List.forall_mem_cons.mpr ⟨(fun _ => Or.inl q1235), List.forall_mem_cons.mpr ⟨(fun _ => Or.inl q1236), List.forall_mem_cons.mpr ⟨(fun _ => Or.inl q1237), List.forall_mem_cons.mpr ⟨(fun h => absurd h (by decide +kernel)), List.forall_mem_cons.mpr ⟨(fun h => absurd h (by decide +kernel)), List.forall_mem_cons.mpr ⟨(fun _ => Or.inl q932), List.forall_mem_cons.mpr ⟨(fun _ => Or.inl q931), List.forall_mem_cons.mpr ⟨(fun _ => Or.inl q1238), (fun _ h => nomatch h)⟩⟩⟩⟩⟩⟩⟩⟩⟩⟩⟩⟩⟩⟩⟩
theorem ctxX1_mustBe {l : Launch} {g : jG} (hG : GS l g) (bg : va_W) : CtrX l g yX1_mustBe cX1_mustBe 1 none 7 1 [.int (nI 0)] bg "java/lang/IndexOutOfBoundsException" := by
  refine CtrX.of [some (.int (nI 0))] hG (by decide +kernel) rfl (Nat.le_of_ble_eq_true rfl) (fun Y hl hN0 o r => ?_)
  subst hl
  refine j_ild_n o dX1_mustBe_0 rfl (q := 1) rfl ?_
  refine j_ifneF o (t := 12) dX1_mustBe_1 (by decide) (q := 4) rfl (by decide) ?_
  exact j_throw0 (ik := 65) o r thrI (by decide +kernel) (by decide +kernel) q1230 q99 dX1_mustBe_4 dX1_mustBe_7 dX1_mustBe_8 dX1_mustBe_11 (by decide) (by decide) (by decide) (by decide)
theorem ctX1_mustBe {l : Launch} {g : jG} (hG : GS l g) (bg : va_W) {n : Nat} (hn : n = 1) : KX1_mustBe l g 1 0 [.int (nI n)] bg [] (fun v wd => v = none ∧ wd = []) := by
  subst hn
  refine Ctr.of [some (.int (nI 1))] hG (by decide +kernel) rfl (Nat.le_of_ble_eq_true rfl) (fun Y hl hN0 o r hI => ?_)
  subst hl
  refine j_ild_n o dX1_mustBe_0 rfl (q := 1) rfl ?_
  refine j_ifneT o 12 dX1_mustBe_1 (by decide) (by decide) ?_
  exact j_vret o r dX1_mustBe_12 [] _ rfl ⟨rfl, rfl⟩ (by omega)
abbrev EX1_init (l : Launch) (g : jG) (lev U : Nat) (av : List Value) (bg : va_W) (E : String) : Prop := CtrX l g yX1_init cX1_init 1 none lev U av bg E
abbrev EX1_flush (l : Launch) (g : jG) (lev U : Nat) (av : List Value) (bg : va_W) (E : String) : Prop := CtrX l g yX1_flush cX1_flush 2 (some FieldType.int) lev U av bg E
abbrev EX1_checkpoint (l : Launch) (g : jG) (lev U : Nat) (av : List Value) (bg : va_W) (E : String) : Prop := CtrX l g yX1_checkpoint cX1_checkpoint 2 (some FieldType.int) lev U av bg E
abbrev EX1_keep (l : Launch) (g : jG) (lev U : Nat) (av : List Value) (bg : va_W) (E : String) : Prop := CtrX l g yX1_keep cX1_keep 1 none lev U av bg E
abbrev EX1_crash (l : Launch) (g : jG) (lev U : Nat) (av : List Value) (bg : va_W) (E : String) : Prop := CtrX l g yX1_crash cX1_crash 2 (some FieldType.int) lev U av bg E
abbrev EX1_recovered (l : Launch) (g : jG) (lev U : Nat) (av : List Value) (bg : va_W) (E : String) : Prop := CtrX l g yX1_recovered cX1_recovered 3 (some (FieldType.object "Splitpointer$Store")) lev U av bg E
abbrev EX1_has (l : Launch) (g : jG) (lev U : Nat) (av : List Value) (bg : va_W) (E : String) : Prop := CtrX l g yX1_has cX1_has 2 (some FieldType.boolean) lev U av bg E
abbrev EX1_placeIn (l : Launch) (g : jG) (lev U : Nat) (av : List Value) (bg : va_W) (E : String) : Prop := CtrX l g yX1_placeIn cX1_placeIn 3 (some FieldType.int) lev U av bg E
abbrev EX1_marks (l : Launch) (g : jG) (lev U : Nat) (av : List Value) (bg : va_W) (E : String) : Prop := CtrX l g yX1_marks cX1_marks 1 (some FieldType.int) lev U av bg E
abbrev EX1_closeAll (l : Launch) (g : jG) (lev U : Nat) (av : List Value) (bg : va_W) (E : String) : Prop := CtrX l g yX1_closeAll cX1_closeAll 2 none lev U av bg E
abbrev EX1_knock (l : Launch) (g : jG) (lev U : Nat) (av : List Value) (bg : va_W) (E : String) : Prop := CtrX l g yX1_knock cX1_knock 1 (some FieldType.int) lev U av bg E
abbrev EX1_isSound (l : Launch) (g : jG) (lev U : Nat) (av : List Value) (bg : va_W) (E : String) : Prop := CtrX l g yX1_isSound cX1_isSound 1 (some FieldType.boolean) lev U av bg E
abbrev EX1_isSoundNow (l : Launch) (g : jG) (lev U : Nat) (av : List Value) (bg : va_W) (E : String) : Prop := CtrX l g yX1_isSoundNow cX1_isSoundNow 7 (some FieldType.boolean) lev U av bg E
abbrev EX1_isBucketSound (l : Launch) (g : jG) (lev U : Nat) (av : List Value) (bg : va_W) (E : String) : Prop := CtrX l g yX1_isBucketSound cX1_isBucketSound 7 (some FieldType.boolean) lev U av bg E
abbrev EX1_isChainSound (l : Launch) (g : jG) (lev U : Nat) (av : List Value) (bg : va_W) (E : String) : Prop := CtrX l g yX1_isChainSound cX1_isChainSound 5 (some FieldType.boolean) lev U av bg E
abbrev EX1_bit (l : Launch) (g : jG) (lev U : Nat) (av : List Value) (bg : va_W) (E : String) : Prop := CtrX l g yX1_bit cX1_bit 1 (some FieldType.int) lev U av bg E
abbrev EX1_digest (l : Launch) (g : jG) (lev U : Nat) (av : List Value) (bg : va_W) (E : String) : Prop := CtrX l g yX1_digest cX1_digest 5 (some FieldType.long) lev U av bg E
abbrev EX1_ofFileNow (l : Launch) (g : jG) (lev U : Nat) (av : List Value) (bg : va_W) (E : String) : Prop := CtrX l g yX1_ofFileNow cX1_ofFileNow 2 (some FieldType.int) lev U av bg E
abbrev EX1_ofDesk (l : Launch) (g : jG) (lev U : Nat) (av : List Value) (bg : va_W) (E : String) : Prop := CtrX l g yX1_ofDesk cX1_ofDesk 2 (some FieldType.int) lev U av bg E
abbrev EX1_add (l : Launch) (g : jG) (lev U : Nat) (av : List Value) (bg : va_W) (E : String) : Prop := CtrX l g yX1_add cX1_add 4 (some FieldType.long) lev U av bg E
abbrev EX1_addFile (l : Launch) (g : jG) (lev U : Nat) (av : List Value) (bg : va_W) (E : String) : Prop := CtrX l g yX1_addFile cX1_addFile 8 (some FieldType.long) lev U av bg E
abbrev EX1_ofBucketNow (l : Launch) (g : jG) (lev U : Nat) (av : List Value) (bg : va_W) (E : String) : Prop := CtrX l g yX1_ofBucketNow cX1_ofBucketNow 4 (some FieldType.int) lev U av bg E
abbrev EX1_chainOf (l : Launch) (g : jG) (lev U : Nat) (av : List Value) (bg : va_W) (E : String) : Prop := CtrX l g yX1_chainOf cX1_chainOf 5 (some (FieldType.object "java/lang/String")) lev U av bg E
abbrev EX1_markNow (l : Launch) (g : jG) (lev U : Nat) (av : List Value) (bg : va_W) (E : String) : Prop := CtrX l g yX1_markNow cX1_markNow 2 (some FieldType.int) lev U av bg E
abbrev EX1_ofClientNow (l : Launch) (g : jG) (lev U : Nat) (av : List Value) (bg : va_W) (E : String) : Prop := CtrX l g yX1_ofClientNow cX1_ofClientNow 3 (some FieldType.int) lev U av bg E
abbrev EX1_crashedNow (l : Launch) (g : jG) (lev U : Nat) (av : List Value) (bg : va_W) (E : String) : Prop := CtrX l g yX1_crashedNow cX1_crashedNow 4 (some FieldType.int) lev U av bg E
abbrev EX1_found (l : Launch) (g : jG) (lev U : Nat) (av : List Value) (bg : va_W) (E : String) : Prop := CtrX l g yX1_found cX1_found 5 (some FieldType.int) lev U av bg E
abbrev EX1_isIn (l : Launch) (g : jG) (lev U : Nat) (av : List Value) (bg : va_W) (E : String) : Prop := CtrX l g yX1_isIn cX1_isIn 3 (some FieldType.boolean) lev U av bg E
abbrev EX1_mustFit (l : Launch) (g : jG) (lev U : Nat) (av : List Value) (bg : va_W) (E : String) : Prop := CtrX l g yX1_mustFit cX1_mustFit 1 none lev U av bg E
abbrev EX1_bounds (l : Launch) (g : jG) (lev U : Nat) (av : List Value) (bg : va_W) (E : String) : Prop := CtrX l g yX1_bounds cX1_bounds 4 (some FieldType.int) lev U av bg E
abbrev EX1_makeRoom (l : Launch) (g : jG) (lev U : Nat) (av : List Value) (bg : va_W) (E : String) : Prop := CtrX l g yX1_makeRoom cX1_makeRoom 1 none lev U av bg E
abbrev EX1_log (l : Launch) (g : jG) (lev U : Nat) (av : List Value) (bg : va_W) (E : String) : Prop := CtrX l g yX1_log cX1_log 2 none lev U av bg E
abbrev EX1_put (l : Launch) (g : jG) (lev U : Nat) (av : List Value) (bg : va_W) (E : String) : Prop := CtrX l g yX1_put cX1_put 6 (some FieldType.int) lev U av bg E
abbrev EX1_mustStand (l : Launch) (g : jG) (lev U : Nat) (av : List Value) (bg : va_W) (E : String) : Prop := CtrX l g yX1_mustStand cX1_mustStand 1 none lev U av bg E
abbrev EX1_drop (l : Launch) (g : jG) (lev U : Nat) (av : List Value) (bg : va_W) (E : String) : Prop := CtrX l g yX1_drop cX1_drop 5 (some FieldType.int) lev U av bg E
abbrev EX1_mustBeKey (l : Launch) (g : jG) (lev U : Nat) (av : List Value) (bg : va_W) (E : String) : Prop := CtrX l g yX1_mustBeKey cX1_mustBeKey 1 none lev U av bg E
abbrev EX1_rehash (l : Launch) (g : jG) (lev U : Nat) (av : List Value) (bg : va_W) (E : String) : Prop := CtrX l g yX1_rehash cX1_rehash 4 (some FieldType.int) lev U av bg E
abbrev EX1_mustBeHashing (l : Launch) (g : jG) (lev U : Nat) (av : List Value) (bg : va_W) (E : String) : Prop := CtrX l g yX1_mustBeHashing cX1_mustBeHashing 2 none lev U av bg E
abbrev EX1_find (l : Launch) (g : jG) (lev U : Nat) (av : List Value) (bg : va_W) (E : String) : Prop := CtrX l g yX1_find cX1_find 6 (some FieldType.int) lev U av bg E
abbrev EX1_open (l : Launch) (g : jG) (lev U : Nat) (av : List Value) (bg : va_W) (E : String) : Prop := CtrX l g yX1_open cX1_open 3 (some FieldType.boolean) lev U av bg E
abbrev EX1_mustBeCursor (l : Launch) (g : jG) (lev U : Nat) (av : List Value) (bg : va_W) (E : String) : Prop := CtrX l g yX1_mustBeCursor cX1_mustBeCursor 1 none lev U av bg E
abbrev EX1_mustBe (l : Launch) (g : jG) (lev U : Nat) (av : List Value) (bg : va_W) (E : String) : Prop := CtrX l g yX1_mustBe cX1_mustBe 1 none lev U av bg E
abbrev EX1_next (l : Launch) (g : jG) (lev U : Nat) (av : List Value) (bg : va_W) (E : String) : Prop := CtrX l g yX1_next cX1_next 3 (some FieldType.int) lev U av bg E
abbrev EX1_behind (l : Launch) (g : jG) (lev U : Nat) (av : List Value) (bg : va_W) (E : String) : Prop := CtrX l g yX1_behind cX1_behind 8 (some (FieldType.object "Splitpointer$Entry")) lev U av bg E
abbrev EX1_ask (l : Launch) (g : jG) (lev U : Nat) (av : List Value) (bg : va_W) (E : String) : Prop := CtrX l g yX1_ask cX1_ask 9 (some FieldType.int) lev U av bg E
abbrev EX1_mustBeClient (l : Launch) (g : jG) (lev U : Nat) (av : List Value) (bg : va_W) (E : String) : Prop := CtrX l g yX1_mustBeClient cX1_mustBeClient 2 (some (FieldType.object "Splitpointer$Client")) lev U av bg E
abbrev EX1_forwarded (l : Launch) (g : jG) (lev U : Nat) (av : List Value) (bg : va_W) (E : String) : Prop := CtrX l g yX1_forwarded cX1_forwarded 6 (some FieldType.int) lev U av bg E
abbrev EX1_get (l : Launch) (g : jG) (lev U : Nat) (av : List Value) (bg : va_W) (E : String) : Prop := CtrX l g yX1_get cX1_get 3 (some FieldType.int) lev U av bg E
abbrev EX1_ofKey (l : Launch) (g : jG) (lev U : Nat) (av : List Value) (bg : va_W) (E : String) : Prop := CtrX l g yX1_ofKey cX1_ofKey 3 (some FieldType.int) lev U av bg E
abbrev EX1_ofKeyNow (l : Launch) (g : jG) (lev U : Nat) (av : List Value) (bg : va_W) (E : String) : Prop := CtrX l g yX1_ofKeyNow cX1_ofKeyNow 6 (some FieldType.int) lev U av bg E
abbrev EX1_ofFile (l : Launch) (g : jG) (lev U : Nat) (av : List Value) (bg : va_W) (E : String) : Prop := CtrX l g yX1_ofFile cX1_ofFile 2 (some FieldType.int) lev U av bg E
abbrev EX1_ofBucket (l : Launch) (g : jG) (lev U : Nat) (av : List Value) (bg : va_W) (E : String) : Prop := CtrX l g yX1_ofBucket cX1_ofBucket 3 (some FieldType.int) lev U av bg E
abbrev EX1_mustBeBucket (l : Launch) (g : jG) (lev U : Nat) (av : List Value) (bg : va_W) (E : String) : Prop := CtrX l g yX1_mustBeBucket cX1_mustBeBucket 2 (some (FieldType.object "Splitpointer$Bucket")) lev U av bg E
abbrev EX1_chain (l : Launch) (g : jG) (lev U : Nat) (av : List Value) (bg : va_W) (E : String) : Prop := CtrX l g yX1_chain cX1_chain 2 (some (FieldType.object "java/lang/String")) lev U av bg E
abbrev EX1_ofPage (l : Launch) (g : jG) (lev U : Nat) (av : List Value) (bg : va_W) (E : String) : Prop := CtrX l g yX1_ofPage cX1_ofPage 5 (some FieldType.int) lev U av bg E
abbrev EX1_placeOf (l : Launch) (g : jG) (lev U : Nat) (av : List Value) (bg : va_W) (E : String) : Prop := CtrX l g yX1_placeOf cX1_placeOf 5 (some (FieldType.array FieldType.int)) lev U av bg E
abbrev EX1_mark (l : Launch) (g : jG) (lev U : Nat) (av : List Value) (bg : va_W) (E : String) : Prop := CtrX l g yX1_mark cX1_mark 2 (some FieldType.int) lev U av bg E
abbrev EX1_ofClient (l : Launch) (g : jG) (lev U : Nat) (av : List Value) (bg : va_W) (E : String) : Prop := CtrX l g yX1_ofClient cX1_ofClient 4 (some FieldType.int) lev U av bg E
abbrev EX1_seek (l : Launch) (g : jG) (lev U : Nat) (av : List Value) (bg : va_W) (E : String) : Prop := CtrX l g yX1_seek cX1_seek 4 (some FieldType.int) lev U av bg E
abbrev EX1_mustBeField (l : Launch) (g : jG) (lev U : Nat) (av : List Value) (bg : va_W) (E : String) : Prop := CtrX l g yX1_mustBeField cX1_mustBeField 1 none lev U av bg E
abbrev EX1_seekNow (l : Launch) (g : jG) (lev U : Nat) (av : List Value) (bg : va_W) (E : String) : Prop := CtrX l g yX1_seekNow cX1_seekNow 6 (some FieldType.int) lev U av bg E
abbrev EX1_visits (l : Launch) (g : jG) (lev U : Nat) (av : List Value) (bg : va_W) (E : String) : Prop := CtrX l g yX1_visits cX1_visits 3 (some FieldType.int) lev U av bg E
abbrev EX1_would (l : Launch) (g : jG) (lev U : Nat) (av : List Value) (bg : va_W) (E : String) : Prop := CtrX l g yX1_would cX1_would 5 (some FieldType.int) lev U av bg E
abbrev EX1_crashed (l : Launch) (g : jG) (lev U : Nat) (av : List Value) (bg : va_W) (E : String) : Prop := CtrX l g yX1_crashed cX1_crashed 2 (some FieldType.int) lev U av bg E
abbrev xIAE : String := "java/lang/IllegalArgumentException"
abbrev xISE : String := "java/lang/IllegalStateException"
abbrev xIOB : String := "java/lang/IndexOutOfBoundsException"

/-! CONTRACTS and calls of the J layer -/
set_option maxRecDepth 100000
def jPre (g : jG) (av : List Value) (bg : va_W) (wc : List va_W) (sz : Nat) : Array Value → State → Prop :=
  va_Pc av (fun U => U.heap.size = sz ∧ (jS0 g).WarmedH U.vm ∧ va_P g.1 CL wc.flatten U.heap ∧ va_D (fun q => jB g ≤ q) wc.flatten ∧ (∀ c ∈ bg, va_at g.1 CL c U.heap ∧ ∀ d ∈ wc.flatten, d.1 ≠ c.1) ∧ (∀ q, q < jB g → U.heap[q]? = (jS0 g).heap[q]?) ∧ jB g ≤ sz)
def jPost (g : jG) (wc : List va_W) (sz : Nat) (post : Option Value → List va_W → Prop) : Array Value → State → Outcome → State → Prop :=
  fun _ st oc t => (∃ (v : Option Value) (wd : List va_W), oc = .returned v ∧ post v wd ∧ va_P g.1 CL wd.flatten t.heap ∧ va_D (va_A wc.flatten sz) wd.flatten) ∧ va_F (va_A wc.flatten sz) st t
/-- the contract of a method: room by its level and its units; the world wc comes in, may be written; bg is read; the answer and the world that goes out meet post -/
def Ctr (l : Launch) (g : jG) (y : MethodName) (cc : ByteArray) (maxL : Nat) (ret : Option FieldType) (lev U : Nat) (av : List Value) (bg : va_W) (wc : List va_W) (post : Option Value → List va_W → Prop) : Prop :=
  ∀ sz, Met l y (ws_ y cc maxL ret) (jR lev U) (jPre g av bg wc sz) (jPost g wc sz post) U (12 * U) (va_A wc.flatten sz)
def jRet (g : jG) (Y : jY) (ret : Option FieldType) (wc : List va_W) (U : Nat) (post : Option Value → List va_W → Prop) : Prop :=
  (yH Y).sig.returnType = ret ∧ yA Y = va_A wc.flatten (yS Y).heap.size ∧ yQ Y = MQ (yB Y) (jPost g wc (yS Y).heap.size post) (yV Y) (yS Y) U (12 * U) (va_A wc.flatten (yS Y).heap.size)
theorem jPre_blind {g : jG} {av : List Value} {bg : va_W} {wc : List va_W} {sz : Nat} : FrameBlind (jPre g av bg wc sz) := fun _ _ _ _ q => q
theorem jok_entry {l : Launch} {g : jG} {y : MethodName} {cc : ByteArray} {maxL : Nat} {ret : Option FieldType} {lev U : Nat} {av : List Value} {bg : va_W} {wc : List va_W} {ws : List Cond} {hd : Cond} (hws : ws = hd :: lw_all) (Q : State → Prop) (hG : GS l g)
    {p : Program} {e : Env} {s : State} {m : MethodId} {args : Array Value} {below : List Frame} {meth : Method} {c : Code} {s₁ : State} (B : BodyLoose p l y (headSpec ws (jR lev U)) cc maxL ret e s m args below meth c s₁) (hml : c.maxLocals = maxL) (hv : jPre g av bg wc s.heap.size args s) :
    jOk g (((p, l, e, jR lev U, s, m, args, below, meth, c), va_A wc.flatten s.heap.size, Q, maxL) : jY) bg y.cls cc lev U ∧ jW g (((p, l, e, jR lev U, s, m, args, below, meth, c), va_A wc.flatten s.heap.size, Q, maxL) : jY) wc s.heap [] := by
  obtain ⟨rfl, -, hW, hP, hD, hbg, hbe, hsz⟩ := hv
  have hts := atoms_spec (ws := ws) B.pre
  refine ⟨⟨B.exec, B.bytes, hml, findClass_of_methodNamed B.named, fun w h => hts w (by rw [hws]; exact List.mem_cons_of_mem _ h), hG, hW, B.notSynchronized, fun q h => Or.inr h, ?_, ?_, hbe, Nat.le_refl _, Nat.le_refl _, Nat.le_refl _, Nat.le_refl _⟩, hP, hD.self, va_S.rf⟩
  · rintro q (⟨k, e, h⟩ | h)
    · exact hD.2 k (q, e) h
    · exact Nat.le_trans hsz h
  · intro c hc
    obtain ⟨h1, h2⟩ := hbg c hc
    refine ⟨h1, ?_⟩
    rintro (⟨k, e, h⟩ | h)
    · exact h2 (c.1, e) (List.mem_of_getElem? h) rfl
    · exact absurd h1.lt (Nat.not_lt.mpr h)
theorem jl_entry {av : List Value} {maxL : Nat} {L0 : List (Option Value)} (hL : jlv 0 L0 = lv_args 0 av) (hn : (lg_sl av).length ≤ maxL) : lv_has ((lg_sl av ++ List.replicate (maxL - (lg_sl av).length) Slot.unset).toArray) maxL (jlv 0 L0) := by
  have h := lv_entry av (n := maxL) hn
  rw [hL]
  exact h
theorem Ctr.of {l : Launch} {g : jG} {y : MethodName} {cc : ByteArray} {maxL : Nat} {ret : Option FieldType} {lev U : Nat} {av : List Value} {bg : va_W} {wc : List va_W} {post : Option Value → List va_W → Prop} (L0 : List (Option Value)) (hG : GS l g) (hy : plainName y.cls = true) (hL : jlv 0 L0 = lv_args 0 av) (hn : (lg_sl av).length ≤ maxL)
    (body : ∀ Y : jY, yL Y = l → yN Y = maxL → jOk g Y bg y.cls cc lev U → jRet g Y ret wc U post → (y.name = "<init>" → (yH Y).name = "<init>") → J g Y wc 0 0 L0 []) : Ctr l g y cc maxL ret lev U av bg wc post := by
  intro sz
  refine Met.ofW (cc := cc) (maxL := maxL) (ret := ret) hy rfl ?_
  intro p e s m args below meth c s₁ B hml hv
  have hsz : s.heap.size = sz := hv.2.1
  subst hsz
  obtain ⟨ho, hw⟩ := jok_entry (ws := ws_ y cc maxL ret) rfl (MQ below (jPost g wc s.heap.size post) args s U (12 * U) (va_A wc.flatten s.heap.size)) hG B hml hv
  have hb := body _ rfl rfl ho ⟨B.returns, rfl, rfl⟩ (fun h => by rw [← h]; exact (name_of_methodNamed B.named B.method).1)
  have hav : args = av.toArray := hv.1
  subst hav
  rw [lg_entry_eq]
  exact hb s.heap [] _ hw (jl_entry hL hn)
section JRET
variable {g : jG} {Y : jY} {bg : va_W} {own : String} {cc : ByteArray} {lev U : Nat} {wc wss : List va_W} {u pc : Nat} {L : List (Option Value)} {post : Option Value → List va_W → Prop} {ret : Option FieldType}
theorem jend (o : jOk g Y bg own cc lev U) (r : jRet g Y ret wc U post) {wd wr : List va_W} {H : Heap} {locs : List Loc} (hw : jW g Y (wd ++ wr) H locs) {v : Option Value} (hp : post v wd) : (∀ t : State, t.heap = H → (yS Y).WarmedH t.vm → jPost g wc (yS Y).heap.size post (yV Y) (yS Y) (.returned v) t) ∧ ∀ q ∈ locs, (va_A wc.flatten (yS Y).heap.size) q.base := by
  obtain ⟨hP, hD, hS⟩ := hw
  rw [List.flatten_append] at hP hD
  rw [r.2.1] at hD hS
  have hD2 := va_D_iff.mp hD
  refine ⟨fun t ht _ => ⟨⟨v, wd, rfl, hp, va_P_mem.mpr fun c hc => by rw [ht]; exact va_P_mem.mp hP c (List.mem_append_left _ hc), va_D_iff.mpr ⟨?_, fun c hc => hD2.2 c (List.mem_append_left _ hc)⟩⟩, hS.F ht⟩, hS.2.2⟩
  have h1 := hD2.1
  rw [List.map_append] at h1
  exact (List.nodup_append.mp h1).1
theorem j_ret (o : jOk g Y bg own cc lev U) {ty : FieldType} (r : jRet g Y (some ty) wc U post) {x : Int32} (hd : decode cc pc = .ok (.ireturn, 1)) (hn : narrow ty (.int x) = .int x) (wd wr : List va_W) (hs : wss = wd ++ wr) (hp : post (some (.int x)) wd) (hu : u ≤ U) : J g Y wss u pc L [.int x] := by
  subst hs
  intro H locs ls hw hl
  unfold jWW
  rw [r.2.2]
  obtain ⟨h1, h2⟩ := jend o r hw hp
  exact W.widen hu (Nat.mul_le_mul_left 12 hu) (W.zret o.ex o.co r.1 hn h1 h2 hd o.lo)
theorem j_lret (o : jOk g Y bg own cc lev U) (r : jRet g Y (some .long) wc U post) {x : Int64} (hd : decode cc pc = .ok (.lreturn, 1)) (wd wr : List va_W) (hs : wss = wd ++ wr) (hp : post (some (.long x)) wd) (hu : u ≤ U) : J g Y wss u pc L [.long x] := by
  subst hs
  intro H locs ls hw hl
  unfold jWW
  rw [r.2.2]
  obtain ⟨h1, h2⟩ := jend o r hw hp
  exact W.widen hu (Nat.mul_le_mul_left 12 hu) (W.lret o.ex o.co r.1 h1 h2 hd o.lo)
theorem j_aret (o : jOk g Y bg own cc lev U) {rt : FieldType} (r : jRet g Y (some rt) wc U post) {x : Value} (hd : decode cc pc = .ok (.areturn, 1)) (hrt : (∃ n, rt = .object n) ∨ ∃ t, rt = .array t) (hx : jrv x = true) (wd wr : List va_W) (hs : wss = wd ++ wr) (hp : post (some x) wd) (hu : u ≤ U) : J g Y wss u pc L [x] := by
  subst hs
  intro H locs ls hw hl
  unfold jWW
  rw [r.2.2]
  obtain ⟨h1, h2⟩ := jend o r hw hp
  exact W.widen hu (Nat.mul_le_mul_left 12 hu) (W.aret o.ex o.co r.1 hrt (jrv_or hx) h1 h2 hd o.lo)
theorem j_vret (o : jOk g Y bg own cc lev U) (r : jRet g Y none wc U post) (hd : decode cc pc = .ok (.return_, 1)) (wd wr : List va_W) (hs : wss = wd ++ wr) (hp : post none wd) (hu : u ≤ U) : J g Y wss u pc L [] := by
  subst hs
  intro H locs ls hw hl
  unfold jWW
  rw [r.2.2]
  obtain ⟨h1, h2⟩ := jend o r hw hp
  exact W.widen hu (Nat.mul_le_mul_left 12 hu) (W.vret o.ex o.co r.1 h1 h2 hd o.lo)
/-- the same cells in another order, cut another way -/
theorem j_pm {st : List Value} (wss2 : List va_W) (h : wss.flatten.Perm wss2.flatten) (k : J g Y wss2 u pc L st) : J g Y wss u pc L st :=
  fun H locs ls hw hl => k H locs ls ⟨va_P_perm hw.1 h, va_D_perm hw.2.1 h, hw.2.2⟩ hl
theorem j_drop {st : List Value} {w : va_W} (k : J g Y wss u pc L st) : J g Y (w :: wss) u pc L st := by
  intro H locs ls hw hl
  have hD := va_D_iff.mp hw.2.1
  rw [List.flatten_cons] at hD
  refine k H locs ls ⟨va_P_mem.mpr fun c hc => va_P_mem.mp hw.1 c (by rw [List.flatten_cons]; exact List.mem_append_right _ hc), va_D_iff.mpr ⟨?_, fun c hc => hD.2 c (List.mem_append_right _ hc)⟩, hw.2.2⟩ hl
  have h1 := hD.1
  rw [List.map_append] at h1
  exact (List.nodup_append.mp h1).2.1
/-- cut the first chunk -/
theorem j_sp {st : List Value} {w : va_W} (ws : List va_W) (h : w = jflat ws) (k : J g Y (ws ++ wss) u pc L st) : J g Y (w :: wss) u pc L st :=
  j_pm (ws ++ wss) (by rw [h, jflat_eq, List.flatten_cons, List.flatten_append]) k
/-- the first chunks as one -/
theorem j_mg {st : List Value} (ws : List va_W) (w : va_W) (h : w = jflat ws) (k : J g Y (w :: wss) u pc L st) : J g Y (ws ++ wss) u pc L st :=
  j_pm (w :: wss) (by rw [h, jflat_eq, List.flatten_cons, List.flatten_append]) k
theorem j_units {st : List Value} {u2 : Nat} (h : u ≤ u2) (k : J g Y wss u2 pc L st) : J g Y wss u pc L st := fun H locs ls hw hl => W.widen h (Nat.mul_le_mul_left 12 h) (k H locs ls hw hl)
/-- the cells of a chunk are where they are: apart from the others, not below the run's own -/
theorem j_base (o : jOk g Y bg own cc lev U) {st : List Value} (k : (∀ c ∈ wss.flatten, jB g ≤ c.1) → (wss.flatten.map (·.1)).Nodup → J g Y wss u pc L st) : J g Y wss u pc L st := by
  intro H locs ls hw hl
  have hD := va_D_iff.mp hw.2.1
  exact k (fun c hc => o.a0 _ (hD.2 c hc)) hD.1 H locs ls hw hl
end JRET
section JMV
variable {g : jG} {Y : jY} {u pc : Nat} {L : List (Option Value)} {st : List Value} {ws : List va_W} {w0 w1 w2 w3 w4 w5 w6 w7 w8 : va_W}
theorem j_mv1 (k : J g Y (w1 :: w0 :: ws) u pc L st) : J g Y (w0 :: w1 :: ws) u pc L st := j_pm _ ((List.Perm.swap w1 w0 ws).flatten) k
theorem j_mv2 (k : J g Y (w2 :: w0 :: w1 :: ws) u pc L st) : J g Y (w0 :: w1 :: w2 :: ws) u pc L st := j_pm _ (((List.Perm.cons w0 (List.Perm.swap w2 w1 ws)).trans (List.Perm.swap w2 w0 (w1 :: ws))).flatten) k
theorem j_mvG (ps ws2 : List va_W) (w : va_W) (k : J g Y (w :: (ps ++ ws2)) u pc L st) : J g Y (ps ++ w :: ws2) u pc L st := j_pm _ (List.perm_middle.flatten) k
theorem j_mv3 (k : J g Y (w3 :: w0 :: w1 :: w2 :: ws) u pc L st) : J g Y (w0 :: w1 :: w2 :: w3 :: ws) u pc L st := j_mvG [w0, w1, w2] ws w3 k
theorem j_mv4 (k : J g Y (w4 :: w0 :: w1 :: w2 :: w3 :: ws) u pc L st) : J g Y (w0 :: w1 :: w2 :: w3 :: w4 :: ws) u pc L st := j_mvG [w0, w1, w2, w3] ws w4 k
theorem j_mv5 (k : J g Y (w5 :: w0 :: w1 :: w2 :: w3 :: w4 :: ws) u pc L st) : J g Y (w0 :: w1 :: w2 :: w3 :: w4 :: w5 :: ws) u pc L st := j_mvG [w0, w1, w2, w3, w4] ws w5 k
theorem j_mv6 (k : J g Y (w6 :: w0 :: w1 :: w2 :: w3 :: w4 :: w5 :: ws) u pc L st) : J g Y (w0 :: w1 :: w2 :: w3 :: w4 :: w5 :: w6 :: ws) u pc L st := j_mvG [w0, w1, w2, w3, w4, w5] ws w6 k
theorem j_mv7 (k : J g Y (w7 :: w0 :: w1 :: w2 :: w3 :: w4 :: w5 :: w6 :: ws) u pc L st) : J g Y (w0 :: w1 :: w2 :: w3 :: w4 :: w5 :: w6 :: w7 :: ws) u pc L st := j_mvG [w0, w1, w2, w3, w4, w5, w6] ws w7 k
end JMV

/-! HEAP ROWS of the J layer: fields, arrays, new cells -/
set_option maxRecDepth 100000
/-- a known kind of object: its number in CL, its name, fields, field types -/
def jCls (ci : Nat) (C : String) (T : u_T) (N : Nat) (ty : Nat → FieldType) : Prop := CL[ci]? = some (C, T, N) ∧ (∀ w ∈ u_ws C T N, w ∈ lw_all) ∧ (∀ k, k < N → parseFieldDescriptor (T k).2.2.1 = some (ty k)) ∧ (∀ a, a < N → ∀ b, b < N → a ≠ b → (T a).2.1 ≠ (T b).2.1)
theorem kcJ2 : jCls 0 RJ2 TJ2 3 tyJ2 := ⟨rfl, in_J2, tyJ2_ok, nmJ2⟩
theorem kcX1 : jCls 1 RX1 TX1 13 tyX1 := ⟨rfl, in_X1, tyX1_ok, nmX1⟩
theorem kcX2 : jCls 2 RX2 TX2 11 tyX2 := ⟨rfl, in_X2, tyX2_ok, nmX2⟩
theorem kcX3 : jCls 3 RX3 TX3 2 tyX3 := ⟨rfl, in_X3, tyX3_ok, nmX3⟩
theorem kcX4 : jCls 4 RX4 TX4 2 tyX4 := ⟨rfl, in_X4, tyX4_ok, nmX4⟩
theorem kcX5 : jCls 5 RX5 TX5 2 tyX5 := ⟨rfl, in_X5, tyX5_ok, nmX5⟩
theorem kcX6 : jCls 6 RX6 TX6 2 tyX6 := ⟨rfl, in_X6, tyX6_ok, nmX6⟩
theorem kcX7 : jCls 7 RX7 TX7 13 tyX7 := ⟨rfl, in_X7, tyX7_ok, nmX7⟩
theorem kcX8 : jCls 8 RX8 TX8 8 tyX8 := ⟨rfl, in_X8, tyX8_ok, nmX8⟩
theorem kcX9 : jCls 9 RX9 TX9 3 tyX9 := ⟨rfl, in_X9, tyX9_ok, nmX9⟩
theorem kcX10 : jCls 10 RX10 TX10 2 tyX10 := ⟨rfl, in_X10, tyX10_ok, nmX10⟩
theorem kcX11 : jCls 11 RX11 TX11 2 tyX11 := ⟨rfl, in_X11, tyX11_ok, nmX11⟩
theorem kcX12 : jCls 12 RX12 TX12 2 tyX12 := ⟨rfl, in_X12, tyX12_ok, nmX12⟩
theorem kcX13 : jCls 13 RX13 TX13 2 tyX13 := ⟨rfl, in_X13, tyX13_ok, nmX13⟩
theorem kcX14 : jCls 14 RX14 TX14 1 tyX14 := ⟨rfl, in_X14, tyX14_ok, nmX14⟩
theorem kcX15 : jCls 15 RX15 TX15 2 tyX15 := ⟨rfl, in_X15, tyX15_ok, nmX15⟩
theorem kcJ6 : jCls 16 RJ6 TJ6 4 tyJ6 := ⟨rfl, in_J6, tyJ6_ok, nmJ6⟩
theorem kcJ8 : jCls 17 RJ8 TJ8 1 tyJ8 := ⟨rfl, in_J8, tyJ8_ok, nmJ8⟩
theorem kcJ9 : jCls 18 RJ9 TJ9 4 tyJ9 := ⟨rfl, in_J9, tyJ9_ok, nmJ9⟩
theorem kcJ21 : jCls 19 RJ21 TJ21 4 tyJ21 := ⟨rfl, in_J21, tyJ21_ok, nmJ21⟩
/-- every kind of CL may stand where an Object is asked -/
theorem cl_obj : ∀ (ci : Nat) (r : vw_C), CL[ci]? = some r → Cond.castable r.1 "java/lang/Object" ∈ lw_tbl := by
  intro ci r h
  match ci, h with
  | 0, h => cases h; exact q2066
  | 1, h => cases h; exact q2063
  | 2, h => cases h; exact q2064
  | 3, h => cases h; exact q2065
  | 4, h => cases h; exact q2067
  | 5, h => cases h; exact q2068
  | 6, h => cases h; exact q2062
  | 7, h => cases h; exact q2069
  | 8, h => cases h; exact q2070
  | 9, h => cases h; exact q2071
  | 10, h => cases h; exact q2074
  | 11, h => cases h; exact q2076
  | 12, h => cases h; exact q2077
  | 13, h => cases h; exact q2079
  | 14, h => cases h; exact q2080
  | 15, h => cases h; exact q2081
  | 16, h => cases h; exact q2072
  | 17, h => cases h; exact q2073
  | 18, h => cases h; exact q2085
  | 19, h => cases h; exact q2084
  | n + 20, h => simp at h
abbrev eA (g : jG) (k n : Nat) (f : Nat → Int32) : va_E := .inl (g.2.1 k, n, .inl f)
abbrev eQ (g : jG) (k n : Nat) (f : Nat → Option Nat) : va_E := .inl (g.2.1 k, n, .inr (.inr (.inr (.inr f))))
abbrev eO (ci : Nat) (fs : List Value) : va_E := .inr (ci, fs)
def jix (wss : List va_W) (k j : Nat) : Nat := (wss.take k).flatten.length + j
theorem jfl_get : ∀ (wss : List va_W) (k j : Nat) {w : va_W} {c : Nat × va_E}, wss[k]? = some w → w[j]? = some c → wss.flatten[jix wss k j]? = some c
  | [], k, j, w, c, h1, _ => by simp at h1
  | v :: ws, 0, j, w, c, h1, h2 => by
    simp at h1; subst h1
    have hl := (List.getElem?_eq_some_iff.mp h2).1
    simp only [jix, List.take_zero, List.flatten_nil, List.length_nil, Nat.zero_add, List.flatten_cons]
    rw [List.getElem?_append_left hl]; exact h2
  | v :: ws, k + 1, j, w, c, h1, h2 => by
    have h3 := jfl_get ws k j (by simpa using h1) h2
    simp only [jix, List.take_succ_cons, List.flatten_cons, List.length_append] at h3 ⊢
    rw [List.getElem?_append_right (by omega), show v.length + (List.take k ws).flatten.length + j - v.length = (List.take k ws).flatten.length + j by omega]
    exact h3
theorem jfl_set : ∀ (wss : List va_W) (k j : Nat) {w : va_W} {c c2 : Nat × va_E}, wss[k]? = some w → w[j]? = some c → wss.flatten.set (jix wss k j) c2 = (wss.set k (w.set j c2)).flatten
  | [], k, j, w, c, c2, h1, _ => by simp at h1
  | v :: ws, 0, j, w, c, c2, h1, h2 => by
    simp at h1; subst h1
    have hl := (List.getElem?_eq_some_iff.mp h2).1
    simp only [jix, List.take_zero, List.flatten_nil, List.length_nil, Nat.zero_add, List.flatten_cons, List.set_cons_zero]
    rw [List.set_append_left _ _ hl]
  | v :: ws, k + 1, j, w, c, c2, h1, h2 => by
    have h3 := jfl_set ws k j (c2 := c2) (by simpa using h1) h2
    simp only [jix, List.take_succ_cons, List.flatten_cons, List.length_append, List.set_cons_succ] at h3 ⊢
    rw [List.set_append_right _ _ (by omega), show v.length + (List.take k ws).flatten.length + j - v.length = (List.take k ws).flatten.length + j by omega, h3]
theorem jone {D : va_G} {cl : List vw_C} {c : Nat × va_E} {H : Heap} (h : va_at D cl c H) : va_P D cl [c] H := va_P_mem.mpr fun d hd => by rw [List.mem_singleton.mp hd]; exact h
section JHEAP
variable {g : jG} {Y : jY} {bg : va_W} {own : String} {cc : ByteArray} {lev U : Nat} {wss : List va_W} {u pc q : Nat} {L : List (Option Value)} {st : List Value}
theorem jM_at (o : jOk g Y bg own cc lev U) {H : Heap} {locs : List Loc} (hw : jW g Y wss H locs) {c : Nat × va_E} (hm : jM Y bg wss c) : va_at g.1 CL c H := by
  rcases hm with h | h
  · exact va_P_mem.mp hw.1 c h
  · obtain ⟨h1, h2⟩ := o.bk c h
    exact h1.kept (hw.2.2.2.1 c.1 h1.lt h2)
/-- may lie in a row of Objects -/
def jTy (g : jG) (c : Nat × va_E) : Prop := match c.2 with
  | .inl a => a.1 = g.2.1 0
  | .inr _ => True
theorem jAny (o : jOk g Y bg own cc lev U) {H : Heap} {locs : List Loc} (hw : jW g Y wss H locs) {c : Nat × va_E} (hm : jM Y bg wss c) (ht : jTy g c) : va_Any "java/lang/Object" (yS Y) H c.1 := by
  have h := jM_at o hw hm
  obtain ⟨a, e⟩ := c
  cases e with
  | inr x =>
    obtain ⟨r, h1, cell, h2, h3, h4, -⟩ := h
    have hk := (o.ka.1 x.1 r h1).2
    obtain ⟨kC, hkC, -⟩ := hk.2
    refine ⟨cell, h2, by rw [h4]; rfl, ⟨kC, by rw [h3]; exact hkC⟩, fun comp hc => ?_⟩
    obtain ⟨c0, t0, f1, f2, f3⟩ := Cond.castable_spec (va_Nw.use (A := #[]) rfl (o.cast (cl_obj _ _ h1)))
    cases hk.1.symm.trans f1
    cases hc.symm.trans f2
    rw [h3]
    exact f3
  | inl x =>
    have ht : x.1 = g.2.1 0 := ht
    have hx : H[a]? = some (vp_cell x.1 x.2) := h
    obtain ⟨hA, hN⟩ := o.ka.2 0 _ (rfl : (jT g)[0]? = some (g.2.1 0, .int))
    have hN : (yS Y).vm.findClass "[I" = some (g.2.1 0) := hN
    obtain ⟨c0, t0, f1, f2, f3⟩ := Cond.castable_spec (va_Nw.use (A := #[]) rfl (o.cast q2092))
    cases hN.symm.trans f1
    obtain ⟨kC, hkC, -⟩ := Vm.findClass_spec hN
    have hcls : (vp_cell x.1 x.2).cls = x.1 := by
      obtain ⟨x1, n, y⟩ := x
      rcases y with y | y | y | y | y <;> rfl
    have hvm : (vp_cell x.1 x.2).vm.isStatics = false := by
      obtain ⟨x1, n, y⟩ := x
      rcases y with y | y | y | y | y <;> rfl
    refine ⟨_, hx, hvm, ⟨kC, by rw [hcls, ht]; exact hkC⟩, fun comp hc => ?_⟩
    cases hc.symm.trans f2
    rw [hcls, ht]
    exact f3
theorem j_gf (o : jOk g Y bg own cc lev U) {a ci N index : Nat} {C : String} {T : u_T} {ty : Nat → FieldType} {fs : List Value} {v : Value} (hd : decode cc pc = .ok (.getfield index, 3)) (hm : jM Y bg wss (a, .inr (ci, fs))) (K : jCls ci C T N ty) (i : Nat) (hi : i < N) (hl : Cond.fieldLink own index (T i).1 (T i).2.1 (T i).2.2.1 ∈ lw_all) (hv : fs[i]? = some v) (e : pc + 3 = q) (k : J g Y wss u q L (v :: st)) : J g Y wss u pc L (.ref a :: st) := by
  subst e
  exact fun H locs ls hw hl2 => va_get o.ex o.co o.wd K.2.1 o.ow o.ka (jone (jM_at o hw hm)) 0 rfl K.1 i hi (o.wd _ hl) (fun _ h => h) hv hd (k H locs ls hw hl2)
/-- an inherited field, named after a lower kind -/
theorem j_gfI (o : jOk g Y bg own cc lev U) {a ci N index : Nat} {C ref : String} {T : u_T} {ty : Nat → FieldType} {fs : List Value} {v : Value} (hd : decode cc pc = .ok (.getfield index, 3)) (hm : jM Y bg wss (a, .inr (ci, fs))) (K : jCls ci C T N ty) (i : Nat) (hi : i < N) (hl : Cond.fieldLink own index ref (T i).2.1 (T i).2.2.1 ∈ lw_all) (hs : Cond.sameField ref (T i).1 (T i).2.1 (T i).2.2.1 ∈ lw_all) (hv : fs[i]? = some v) (e : pc + 3 = q) (k : J g Y wss u q L (v :: st)) : J g Y wss u pc L (.ref a :: st) := by
  subst e
  exact fun H locs ls hw hl2 => va_get o.ex o.co o.wd K.2.1 o.ow o.ka (jone (jM_at o hw hm)) 0 rfl K.1 i hi (o.wd _ hl) (fun x h => u_same (o.wd _ hs) x h) hv hd (k H locs ls hw hl2)
theorem j_gfN (o : jOk g Y bg own cc lev U) {a ci N index : Nat} {C host : String} {T : u_T} {ty : Nat → FieldType} {fs : List Value} {v : Value} (hd : decode cc pc = .ok (.getfield index, 3)) (hm : jM Y bg wss (a, .inr (ci, fs))) (K : jCls ci C T N ty) (i : Nat) (hi : i < N) (hl : Cond.fieldLinkNest own index (T i).1 (T i).2.1 (T i).2.2.1 host ∈ lw_tbl) (hv : fs[i]? = some v) (e : pc + 3 = q) (k : J g Y wss u q L (v :: st)) : J g Y wss u pc L (.ref a :: st) := by
  subst e
  exact fun H locs ls hw hl2 => va_getN o.ex o.co o.wd K.2.1 o.ow o.ka (jone (jM_at o hw hm)) 0 rfl K.1 i hi (va_Nw.use rfl (o.nestF hl)) (fun _ h => h) hv hd (k H locs ls hw hl2)
theorem j_pf (o : jOk g Y bg own cc lev U) {a ci N index : Nat} {C : String} {T : u_T} {ty : Nat → FieldType} {fs : List Value} {v : Value} {w : va_W} (hd : decode cc pc = .ok (.putfield index, 3)) (k9 j : Nat) (h1 : wss[k9]? = some w) (h2 : w[j]? = some (a, .inr (ci, fs))) (K : jCls ci C T N ty) (i : Nat) (hi : i < N) (hl : Cond.fieldLink own index (T i).1 (T i).2.1 (T i).2.2.1 ∈ lw_all) (hfin : (T i).2.2.2 = false) (hn : narrow (ty i) v = v) (hf : fits (ty i) v = true) (hlen : i < fs.length) (e : pc + 3 = q) (k : J g Y (wss.set k9 (w.set j (a, .inr (ci, fs.set i v)))) u q L st) : J g Y wss u pc L (v :: .ref a :: st) := by
  subst e
  intro H locs ls hw hl2
  refine va_put o.ex o.co o.wd K.2.1 ty K.2.2.1 K.2.2.2 o.ow o.ka hw.1 hw.2.1 hw.2.2 (jix wss k9 j) (jfl_get wss k9 j h1 h2) K.1 i hi (o.wd _ hl) (fun _ h => h) hfin (K.2.2.1 i hi) hn hf hlen hd (fun H1 locs1 p1 p2 p3 => ?_)
  rw [jfl_set wss k9 j h1 h2] at p1 p2
  exact k H1 locs1 ls ⟨p1, p2, p3⟩ hl2
theorem j_pfI (o : jOk g Y bg own cc lev U) {a ci N index : Nat} {C ref : String} {T : u_T} {ty : Nat → FieldType} {fs : List Value} {v : Value} {w : va_W} (hd : decode cc pc = .ok (.putfield index, 3)) (k9 j : Nat) (h1 : wss[k9]? = some w) (h2 : w[j]? = some (a, .inr (ci, fs))) (K : jCls ci C T N ty) (i : Nat) (hi : i < N) (hl : Cond.fieldLink own index ref (T i).2.1 (T i).2.2.1 ∈ lw_all) (hs : Cond.sameField ref (T i).1 (T i).2.1 (T i).2.2.1 ∈ lw_all) (hfin : (T i).2.2.2 = false) (hn : narrow (ty i) v = v) (hf : fits (ty i) v = true) (hlen : i < fs.length) (e : pc + 3 = q) (k : J g Y (wss.set k9 (w.set j (a, .inr (ci, fs.set i v)))) u q L st) : J g Y wss u pc L (v :: .ref a :: st) := by
  subst e
  intro H locs ls hw hl2
  refine va_put o.ex o.co o.wd K.2.1 ty K.2.2.1 K.2.2.2 o.ow o.ka hw.1 hw.2.1 hw.2.2 (jix wss k9 j) (jfl_get wss k9 j h1 h2) K.1 i hi (o.wd _ hl) (fun x h => u_same (o.wd _ hs) x h) hfin (K.2.2.1 i hi) hn hf hlen hd (fun H1 locs1 p1 p2 p3 => ?_)
  rw [jfl_set wss k9 j h1 h2] at p1 p2
  exact k H1 locs1 ls ⟨p1, p2, p3⟩ hl2
/-- a final field, in its own constructor -/
theorem j_pfF (o : jOk g Y bg own cc lev U) {a ci N index : Nat} {C : String} {T : u_T} {ty : Nat → FieldType} {fs : List Value} {v : Value} {w : va_W} (hd : decode cc pc = .ok (.putfield index, 3)) (hin : (yH Y).name = "<init>") (k9 j : Nat) (h1 : wss[k9]? = some w) (h2 : w[j]? = some (a, .inr (ci, fs))) (K : jCls ci C T N ty) (i : Nat) (hi : i < N) (hl : Cond.fieldLink own index (T i).1 (T i).2.1 (T i).2.2.1 ∈ lw_all) (hfin : (T i).2.2.2 = true) (hdecl : (T i).1 = own) (hn : narrow (ty i) v = v) (hf : fits (ty i) v = true) (hlen : i < fs.length) (e : pc + 3 = q) (k : J g Y (wss.set k9 (w.set j (a, .inr (ci, fs.set i v)))) u q L st) : J g Y wss u pc L (v :: .ref a :: st) := by
  subst e
  intro H locs ls hw hl2
  refine va_putF o.ex o.co o.wd K.2.1 ty K.2.2.1 K.2.2.2 o.ow o.ka hw.1 hw.2.1 hw.2.2 (jix wss k9 j) (jfl_get wss k9 j h1 h2) K.1 i hi (o.wd _ hl) (fun _ h => h) hfin hin hdecl (K.2.2.1 i hi) hn hf hlen hd (fun H1 locs1 p1 p2 p3 => ?_)
  rw [jfl_set wss k9 j h1 h2] at p1 p2
  exact k H1 locs1 ls ⟨p1, p2, p3⟩ hl2
theorem jpush {A : Nat → Prop} {H0 H1 : Heap} {locs : List Loc} {c : Nat × va_E} (p1 : va_P g.1 CL (wss.flatten ++ [c]) H1) (p2 : va_D A (wss.flatten ++ [c])) (p3 : va_S A H0 H1 locs) : va_P g.1 CL ([c] :: wss).flatten H1 ∧ va_D A ([c] :: wss).flatten ∧ va_S A H0 H1 locs := by
  have h : (wss.flatten ++ [c]).Perm ([c] :: wss).flatten := by
    rw [List.flatten_cons]
    exact List.perm_append_comm
  exact ⟨va_P_perm p1 h, va_D_perm p2 h, p3⟩
theorem j_new (o : jOk g Y bg own cc lev U) {ci N index : Nat} {C : String} {T : u_T} {ty : Nat → FieldType} {fs : List Value} (n : Nat) (hd : decode cc pc = .ok (.new index, 3)) (K : jCls ci C T N ty) (hl : Cond.classLink own index C ∈ lw_all) (hi : Cond.instantiable C N ∈ lw_all) (hz : Cond.initialized C ∈ lw_all) (hfs : ∀ j, j < N → defaultValue (ty j) = vp_V fs j) (hu : u + n ≤ U) (hn : 1 ≤ n ∧ N ≤ 12 * n) (e : pc + 3 = q) (k : ∀ a : Nat, jB g ≤ a → J g Y ([(a, .inr (ci, fs))] :: wss) (u + n) q L (.ref a :: st)) : J g Y wss u pc L st := by
  subst e
  intro H locs ls hw hl2
  have hc := o.rc
  have hs := o.rs
  refine va_new o.ex o.co o.wd K.2.1 ty K.2.2.1 o.ow (o.wd _ hl) (o.wd _ hi) (o.wd _ hz) o.ka hw.1 hw.2.1 hw.2.2 o.a1 K.1 hfs (by omega) (by omega) hd (fun a H1 p1 p2 p3 => ?_)
  have ha : jB g ≤ a := o.a0 a (p2.2 wss.flatten.length (a, .inr (ci, fs)) (by rw [List.getElem?_append_right (Nat.le_refl _), Nat.sub_self]; rfl))
  exact W.widen (by omega) (by omega) (k a ha H1 locs ls (jpush p1 p2 p3) hl2)
/-- a new array of small numbers -/
theorem j_newA (o : jOk g Y bg own cc lev U) {atype : ArrayType} {ty : FieldType} {N : Nat} (t n : Nat) (hd : decode cc pc = .ok (.newarray atype, 2)) (hw : Cond.arrayClass (newarray.typeOf atype) ∈ lw_all) (hty : newarray.typeOf atype = ty) (ht : (jT g)[t]? = some (g.2.1 t, ty)) (hra : ∀ (U : State) (c : ClassId), va_RA U c ty → U.vm.findClass ("[" ++ ty.toString) = some c) (hz : defaultValue ty = .int 0) (hN : N < 2 ^ 20) (hb : componentBytes ty ≤ 8) (hu : u + n ≤ U) (hn : 1 ≤ n ∧ N ≤ 12 * n) (e : pc + 2 = q) (k : ∀ a : Nat, jB g ≤ a → J g Y ([(a, eA g t N (fun _ => 0))] :: wss) (u + n) q L (.ref a :: st)) : J g Y wss u pc L (.int (nI N) :: st) := by
  subst e
  intro H locs ls hw2 hl2
  have hc := o.rc
  have hs := o.rs
  refine va_newa (a0 := (N, .inl (fun _ => 0))) (N' := N) o.ex o.co (o.wd _ hw) hty o.ka hw2.1 hw2.2.1 hw2.2.2 o.a1 (fun cA => by rw [hz]; rfl) (nI_pos (by omega)) (nI_clamp (by omega)) (Nat.le_trans (Nat.mul_le_mul (Nat.le_of_lt hN) hb) (by decide)) (by omega) (by omega) hd (fun a cA H1 hK p1 p2 p3 => ?_)
  have ha : jB g ≤ a := o.a0 a (p2.2 wss.flatten.length _ (by rw [List.getElem?_append_right (Nat.le_refl _), Nat.sub_self]; rfl))
  have h1 := hra _ _ (hK.2 (jT g).length _ (by rw [List.getElem?_append_right (Nat.le_refl _), Nat.sub_self]; rfl)).2
  have h2 := hra _ _ (o.ka.2 t _ ht).2
  cases Option.some.inj (h1.symm.trans h2)
  exact W.widen (by omega) (by omega) (k a ha H1 locs ls (jpush p1 p2 p3) hl2)
theorem j_newI (o : jOk g Y bg own cc lev U) {N : Nat} (n : Nat) (hd : decode cc pc = .ok (.newarray .int, 2)) (hN : N < 2 ^ 20) (hu : u + n ≤ U) (hn : 1 ≤ n ∧ N ≤ 12 * n) (e : pc + 2 = q) (k : ∀ a : Nat, jB g ≤ a → J g Y ([(a, eA g 0 N (fun _ => 0))] :: wss) (u + n) q L (.ref a :: st)) : J g Y wss u pc L (.int (nI N) :: st) :=
  j_newA o 0 n hd q393 rfl rfl (fun _ _ h => h) rfl hN (by decide) hu hn e k
theorem j_newZ (o : jOk g Y bg own cc lev U) {N : Nat} (n : Nat) (hd : decode cc pc = .ok (.newarray .boolean, 2)) (hN : N < 2 ^ 20) (hu : u + n ≤ U) (hn : 1 ≤ n ∧ N ≤ 12 * n) (e : pc + 2 = q) (k : ∀ a : Nat, jB g ≤ a → J g Y ([(a, eA g 1 N (fun _ => 0))] :: wss) (u + n) q L (.ref a :: st)) : J g Y wss u pc L (.int (nI N) :: st) :=
  j_newA o 1 n hd q193 rfl rfl (fun _ _ h => h) rfl hN (by decide) hu hn e k
theorem j_newB (o : jOk g Y bg own cc lev U) {N : Nat} (n : Nat) (hd : decode cc pc = .ok (.newarray .byte, 2)) (hN : N < 2 ^ 20) (hu : u + n ≤ U) (hn : 1 ≤ n ∧ N ≤ 12 * n) (e : pc + 2 = q) (k : ∀ a : Nat, jB g ≤ a → J g Y ([(a, eA g 2 N (fun _ => 0))] :: wss) (u + n) q L (.ref a :: st)) : J g Y wss u pc L (.int (nI N) :: st) :=
  j_newA o 2 n hd q741 rfl rfl (fun _ _ h => h) rfl hN (by decide) hu hn e k
/-- a new array of references -/
theorem j_newQ (o : jOk g Y bg own cc lev U) {C : String} {N index : Nat} (t n : Nat) (hd : decode cc pc = .ok (.anewarray index, 3)) (hl : Cond.classLink own index C ∈ lw_all) (ho : Cond.arrayOver (.object C) ∈ lw_tbl) (ht : (jT g)[t]? = some (g.2.1 t, .object C)) (hN : N < 2 ^ 20) (hu : u + n ≤ U) (hn : 1 ≤ n ∧ N ≤ 12 * n) (e : pc + 3 = q) (k : ∀ a : Nat, jB g ≤ a → J g Y ([(a, eQ g t N (fun _ => none))] :: wss) (u + n) q L (.ref a :: st)) : J g Y wss u pc L (.int (nI N) :: st) := by
  subst e
  intro H locs ls hw2 hl2
  have hc := o.rc
  have hs := o.rs
  refine va_newq (N' := N) o.ex o.co o.ow (o.wd _ hl) (o.over ho) o.ka hw2.1 hw2.2.1 hw2.2.2 o.a1 (nI_pos (by omega)) (nI_clamp (by omega)) (by omega) (by omega) (by omega) hd (fun a cA H1 hK p1 p2 p3 => ?_)
  have ha : jB g ≤ a := o.a0 a (p2.2 wss.flatten.length _ (by rw [List.getElem?_append_right (Nat.le_refl _), Nat.sub_self]; rfl))
  have h1 := (hK.2 (jT g).length _ (by rw [List.getElem?_append_right (Nat.le_refl _), Nat.sub_self]; rfl)).2
  have h2 := (o.ka.2 t _ ht).2
  obtain ⟨_, _, _, _, _, f1⟩ := h1
  obtain ⟨_, _, _, _, _, f2⟩ := h2
  cases Option.some.inj (f1.symm.trans f2)
  exact W.widen (by omega) (by omega) (k a ha H1 locs ls (jpush p1 p2 p3) hl2)
theorem j_alen (o : jOk g Y bg own cc lev U) {a n : Nat} {x : vp_A} {t : Nat} {ty : FieldType} (hd : decode cc pc = .ok (.arraylength, 1)) (hm : jM Y bg wss (a, .inl (g.2.1 t, x))) (ht : (jT g)[t]? = some (g.2.1 t, ty)) (hx : x.1 = n) (e : pc + 1 = q) (k : J g Y wss u q L (.int (nI n) :: st)) : J g Y wss u pc L (.ref a :: st) := by
  subst e
  subst hx
  exact fun H locs ls hw hl2 => va_alen o.ex o.co o.ka (jone (jM_at o hw hm)) 0 t rfl ht rfl hd (k H locs ls hw hl2)
theorem j_iald (o : jOk g Y bg own cc lev U) {a n i : Nat} {f : Nat → Int32} (hd : decode cc pc = .ok (.iaload, 1)) (hm : jM Y bg wss (a, eA g 0 n f)) (hi : i < n) (hn : i < 2 ^ 31) (e : pc + 1 = q) (k : J g Y wss u q L (.int (f i) :: st)) : J g Y wss u pc L (.int (nI i) :: .ref a :: st) := by
  subst e
  intro H locs ls hw hl2
  have k2 := k H locs ls hw hl2
  rw [← nI_clamp hn] at k2
  exact va_iald o.ex o.co o.ka (jone (jM_at o hw hm)) 0 0 rfl rfl (by unfold vp_in; rw [nI_clamp hn]; rintro (h | h); exact nI_pos hn h; omega) hd k2
theorem j_zald (o : jOk g Y bg own cc lev U) {a n i : Nat} {f : Nat → Int32} (hd : decode cc pc = .ok (.baload, 1)) (hm : jM Y bg wss (a, eA g 1 n f)) (hi : i < n) (hn : i < 2 ^ 31) (e : pc + 1 = q) (k : J g Y wss u q L (.int (f i) :: st)) : J g Y wss u pc L (.int (nI i) :: .ref a :: st) := by
  subst e
  intro H locs ls hw hl2
  have k2 := k H locs ls hw hl2
  rw [← nI_clamp hn] at k2
  exact va_zald o.ex o.co o.ka (jone (jM_at o hw hm)) 0 1 rfl rfl (by unfold vp_in; rw [nI_clamp hn]; rintro (h | h); exact nI_pos hn h; omega) hd k2
theorem j_bald (o : jOk g Y bg own cc lev U) {a n i : Nat} {f : Nat → Int32} (hd : decode cc pc = .ok (.baload, 1)) (hm : jM Y bg wss (a, eA g 2 n f)) (hi : i < n) (hn : i < 2 ^ 31) (e : pc + 1 = q) (k : J g Y wss u q L (.int (f i) :: st)) : J g Y wss u pc L (.int (nI i) :: .ref a :: st) := by
  subst e
  intro H locs ls hw hl2
  have k2 := k H locs ls hw hl2
  rw [← nI_clamp hn] at k2
  exact va_bald o.ex o.co o.ka (jone (jM_at o hw hm)) 0 2 rfl rfl (by unfold vp_in; rw [nI_clamp hn]; rintro (h | h); exact nI_pos hn h; omega) hd k2
theorem j_aald (o : jOk g Y bg own cc lev U) {a n i t : Nat} {C : String} {f : Nat → Option Nat} {r : Nat} (hd : decode cc pc = .ok (.aaload, 1)) (hm : jM Y bg wss (a, eQ g t n f)) (ht : (jT g)[t]? = some (g.2.1 t, .object C)) (hi : i < n) (hn : i < 2 ^ 31) (hf : f i = some r) (e : pc + 1 = q) (k : J g Y wss u q L (.ref r :: st)) : J g Y wss u pc L (.int (nI i) :: .ref a :: st) := by
  subst e
  intro H locs ls hw hl2
  have k2 : jWW Y H locs u (F0 (yM Y) (pc + 1) ls (va_rf (f (nI i).toNatClampNeg) :: st)) := by
    rw [nI_clamp hn, hf]
    exact k H locs ls hw hl2
  exact va_aldq o.ex o.co o.ka (jone (jM_at o hw hm)) 0 t rfl ht (by unfold vp_in; rw [nI_clamp hn]; rintro (h | h); exact nI_pos hn h; omega) hd k2
end JHEAP

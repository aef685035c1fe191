/-! HEAP ROWS, second: copies of arrays whose source is known by itself (lines of the kit's own proofs, turned) -/
set_option maxRecDepth 100000
section JCP
variable {p : Program} {l : Launch} {e : Env} {R : Room} {s : State} {m : MethodId} {args : Array Value} {below : List Frame} {meth : Method} {c : Code} {H : Heap} {locs : List Loc} {cells slots : Nat} {Q : State → Prop}
variable {pc : Nat} {ls : Array Slot} {rest : List Value} {D : va_G} {cl : List vw_C} {A : Nat → Prop} {a : Nat} {tys : List (ClassId × FieldType)} {ws : va_W} {H0 : Heap}
theorem jw_copyi {cc : ByteArray} (hexec : p.tables.exec = Jvm.exec) (hb : c.code = cc) (hml : c.maxLocals = ls.size) {own : String} {index : Nat} (hown : s.vm.findClass own = some m.cls) (hlink : (Cond.methodLink own index arraycopyName).before args s = true) (hnat : (Cond.native arraycopyName).before args s = true) (hstat : (Cond.static arraycopyName).before args s = true) (hini : (Cond.initialized "java/lang/System").before args s = true)
    (hK : va_K D cl tys s) (hP : va_P D cl ws H) (hD : va_D A ws) (hS : va_S A H0 H locs) (q1 t0 t1 : Nat) {a0 : Nat} {c0 c1 : ClassId} {n0 n1 : Nat} {f g : Nat → Int32} {ty : FieldType} (hc0 : H[a0]? = some (vp_cell c0 (n0, .inl f))) (ha1 : ws[q1]? = some (a, .inl (c1, n1, .inl g))) (ht0 : tys[t0]? = some (c0, ty)) (ht1 : tys[t1]? = some (c1, ty)) (hprim : refKind ty = false)
    {sp dp n : Int32} (h1 : ¬ sp < 0) (h2 : ¬ dp < 0) (h3 : ¬ n < 0) (h4 : sp.toNatClampNeg + n.toNatClampNeg ≤ n0) (h5 : dp.toNatClampNeg + n.toNatClampNeg ≤ n1) (hfit : ∀ i, i < n.toNatClampNeg → fits ty (.int (f (sp.toNatClampNeg + i))) = true)
    (hframes : 1 ≤ R.frames) (hlocals : (rest.map fun v => v.category).sum + (nativeFrameWords "java/lang/System" "arraycopy" 5 + 11) ≤ R.locals) (hdg : decode cc pc = .ok (.invokestatic index, 3))
    (kk : ∀ (H1 : Heap) (locs1 : List Loc), va_P D cl (ws.set q1 (a, .inl (c1, n1, .inl (va_cpy f g sp.toNatClampNeg dp.toNatClampNeg n.toNatClampNeg)))) H1 → va_D A (ws.set q1 (a, .inl (c1, n1, .inl (va_cpy f g sp.toNatClampNeg dp.toNatClampNeg n.toNatClampNeg)))) → va_S A H0 H1 locs1 → W p l e R s m args below meth c H1 locs1 cells slots Q (F0 m (pc + 3) ls rest)) : W p l e R s m args below meth c H locs cells slots Q (F0 m pc ls (.int n :: .int dp :: .ref a :: .int sp :: .ref a0 :: rest)) := by
  have nn : ∀ z : Int32, ¬ z < 0 → z.toInt = (z.toNatClampNeg : Int) := by
    intro z hz
    have hz0 : (0 : Int) ≤ z.toInt := by
      have := Int32.not_lt.mp hz
      simpa using Int32.le_iff_toInt_le.mp this
    show z.toInt = ((z.toInt.toNat : Nat) : Int)
    omega
  intro T hT X
  have hc1 : H[a]? = some (vp_cell c1 (n1, .inl g)) := hP q1 _ ha1
  obtain ⟨-, k0, hk0, cm0, hkk0⟩ := (hK.2 t0 _ ht0).1 n0 (fun j => .int (f j))
  obtain ⟨-, k1, hk1, cm1, hkk1⟩ := (hK.2 t1 _ ht1).1 n1 (fun j => .int (g j))
  obtain ⟨vm', X', step⟩ := X.arraycopy hexec hown hlink hnat hstat hini (src := a0) (dst := a) (cs := vp_cell c0 (n0, .inl f)) (cd := vp_cell c1 (n1, .inl g)) (srcPos := sp) (destPos := dp) (n := n) (by rw [hT]; exact hc0) (by rw [hT]; exact hc1)
    (fun _ h => by cases h) (fun _ h => by cases h) (fun h => by cases h) (fun h => by cases h) hk0 hk1 hkk0 hkk1 (by simp [hprim]) h1 h2 h3
    (by rw [nn sp h1, nn n h3]; show ¬ _ > ((arrV c0 n0 (fun j => .int (f j))).slots.size : Int); rw [arrV_size]; omega)
    (by rw [nn dp h2, nn n h3]; show ¬ _ > ((arrV c1 n1 (fun j => .int (g j))).slots.size : Int); rw [arrV_size]; omega)
    (fun vm₁ _ i hi => by
      have e : (vp_cell c0 (n0, .inl f)).slots.getD (sp.toNatClampNeg + i) .null = .int (f (sp.toNatClampNeg + i)) := by
        show (arrV c0 n0 (fun j => .int (f j))).slots.getD _ _ = _
        rw [Array.getD_eq_getD_getElem?, arrV_read _ _ (by omega)]
        rfl
      refine ⟨?_, ?_⟩
      · rw [e]
        exact hfit i hi
      · rw [e]
        exact trivial)
    (g := F0 m pc ls (.int n :: .int dp :: .ref a :: .int sp :: .ref a0 :: rest)) rfl (by rw [hml]) (rest := rest) rfl (by rw [hb]; exact hdg) hframes (by show 2 * 0 + _ + _ ≤ _; omega)
  have e1 : copied (vp_cell c0 (n0, .inl f)) (vp_cell c1 (n1, .inl g)) sp dp n = vp_cell c1 (n1, .inl (va_cpy f g sp.toNatClampNeg dp.toNatClampNeg n.toNatClampNeg)) := va_copied (fun z => .int z) c0 c1 f g h4
  rw [e1] at X' step
  have hl : a < H.size := (Array.getElem?_eq_some_iff.mp hc1).1
  have hheap : ((T.setVm vm').setCell a (vp_cell c1 (n1, .inl (va_cpy f g sp.toNatClampNeg dp.toNatClampNeg n.toNatClampNeg)))).heap = H.setIfInBounds a (vp_cell c1 (n1, .inl (va_cpy f g sp.toNatClampNeg dp.toNatClampNeg n.toNatClampNeg))) := by rw [← hT]; rfl
  have oq : ∀ q : Nat, q ≠ a → (H.setIfInBounds a (vp_cell c1 (n1, .inl (va_cpy f g sp.toNatClampNeg dp.toNatClampNeg n.toNatClampNeg))))[q]? = H[q]? := fun q hq => by simp [Array.getElem?_setIfInBounds, Ne.symm hq]
  obtain ⟨t, a1, b1⟩ := kk _ _ (hP.set hD ha1 (show (H.setIfInBounds a _)[a]? = some _ by simp [Array.getElem?_setIfInBounds, hl]) oq) (hD.set ha1) ⟨by simp; exact hS.1, fun q g1 g2 => by
      rw [oq q (fun e => g2 (by rw [e]; exact hD.2 q1 _ ha1))]
      exact hS.2.1 q g1 g2, fun q hq => by
      rcases List.mem_append.mp hq with h | h
      · exact hS.2.2 q h
      · obtain ⟨z, -, hz⟩ := List.mem_map.mp h
        rw [← hz]
        exact hD.2 q1 _ ha1⟩ _ hheap X'
  exact ⟨t, step t a1, b1⟩
theorem jw_copyM {cc : ByteArray} (hexec : p.tables.exec = Jvm.exec) (hb : c.code = cc) (hml : c.maxLocals = ls.size) {own : String} {index : Nat} (hown : s.vm.findClass own = some m.cls) (hlink : (Cond.methodLink own index arraycopyName).before args s = true) (hnat : (Cond.native arraycopyName).before args s = true) (hstat : (Cond.static arraycopyName).before args s = true) (hini : (Cond.initialized "java/lang/System").before args s = true)
    (hK : va_K D cl tys s) (hP : va_P D cl ws H) (hD : va_D A ws) (hS : va_S A H0 H locs) (q1 t0 t1 : Nat) {a0 : Nat} {c0 c1 : ClassId} {n0 n1 : Nat} {f g : Nat → Option Nat} {E0 E1 : String} (hc0 : H[a0]? = some (vp_cell c0 (n0, .inr (.inr (.inr (.inr f)))))) (ha1 : ws[q1]? = some (a, .inl (c1, n1, .inr (.inr (.inr (.inr g)))))) (ht0 : tys[t0]? = some (c0, .object E0)) (ht1 : tys[t1]? = some (c1, .object E1))
    {sp dp n : Int32} (h1 : ¬ sp < 0) (h2 : ¬ dp < 0) (h3 : ¬ n < 0) (h4 : sp.toNatClampNeg + n.toNatClampNeg ≤ n0) (h5 : dp.toNatClampNeg + n.toNatClampNeg ≤ n1) (hel : ∀ i : Nat, i < n.toNatClampNeg → ∀ y : Nat, f (sp.toNatClampNeg + i) = some y → va_Any E1 s H y)
    (hframes : 1 ≤ R.frames) (hlocals : (rest.map fun v => v.category).sum + (nativeFrameWords "java/lang/System" "arraycopy" 5 + 11) ≤ R.locals) (hdg : decode cc pc = .ok (.invokestatic index, 3))
    (kk : ∀ (H1 : Heap) (locs1 : List Loc), va_P D cl (ws.set q1 (a, .inl (c1, n1, .inr (.inr (.inr (.inr (va_cpy f g sp.toNatClampNeg dp.toNatClampNeg n.toNatClampNeg))))))) H1 → va_D A (ws.set q1 (a, .inl (c1, n1, .inr (.inr (.inr (.inr (va_cpy f g sp.toNatClampNeg dp.toNatClampNeg n.toNatClampNeg))))))) → va_S A H0 H1 locs1 → W p l e R s m args below meth c H1 locs1 cells slots Q (F0 m (pc + 3) ls rest)) : W p l e R s m args below meth c H locs cells slots Q (F0 m pc ls (.int n :: .int dp :: .ref a :: .int sp :: .ref a0 :: rest)) := by
  have nn : ∀ z : Int32, ¬ z < 0 → z.toInt = (z.toNatClampNeg : Int) := by
    intro z hz
    have hz0 : (0 : Int) ≤ z.toInt := by
      have := Int32.not_lt.mp hz
      simpa using Int32.le_iff_toInt_le.mp this
    show z.toInt = ((z.toInt.toNat : Nat) : Int)
    omega
  intro T hT X
  have hc1 : H[a]? = some (vp_cell c1 (n1, .inr (.inr (.inr (.inr g))))) := hP q1 _ ha1
  obtain ⟨-, k0, hk0, cm0, hkk0⟩ := (hK.2 t0 _ ht0).1 n0 (fun j => va_rf (f j))
  obtain ⟨-, k1, hk1, cm1, hkk1⟩ := (hK.2 t1 _ ht1).1 n1 (fun j => va_rf (g j))
  obtain ⟨vm', X', step⟩ := X.arraycopy hexec hown hlink hnat hstat hini (src := a0) (dst := a) (cs := vp_cell c0 (n0, .inr (.inr (.inr (.inr f))))) (cd := vp_cell c1 (n1, .inr (.inr (.inr (.inr g))))) (srcPos := sp) (destPos := dp) (n := n) (by rw [hT]; exact hc0) (by rw [hT]; exact hc1)
    (fun _ h => by cases h) (fun _ h => by cases h) (fun h => by cases h) (fun h => by cases h) hk0 hk1 hkk0 hkk1 rfl h1 h2 h3
    (by rw [nn sp h1, nn n h3]; show ¬ _ > ((arrV c0 n0 (fun j => va_rf (f j))).slots.size : Int); rw [arrV_size]; omega)
    (by rw [nn dp h2, nn n h3]; show ¬ _ > ((arrV c1 n1 (fun j => va_rf (g j))).slots.size : Int); rw [arrV_size]; omega)
    (fun vm₁ hal i hi => by
      have e : (vp_cell c0 (n0, .inr (.inr (.inr (.inr f))))).slots.getD (sp.toNatClampNeg + i) .null = va_rf (f (sp.toNatClampNeg + i)) := by
        show (arrV c0 n0 (fun j => va_rf (f j))).slots.getD _ _ = _
        rw [Array.getD_eq_getD_getElem?, arrV_read _ _ (by omega)]
        rfl
      rw [e]
      cases hy : f (sp.toNatClampNeg + i) with
      | none => exact ⟨rfl, trivial⟩
      | some y =>
        obtain ⟨cellV, g1, g2, ⟨kC, hkC⟩, hasg⟩ := hel i hi y hy
        obtain ⟨kA, comp, r1, r2, r3, -⟩ := (hK.2 t1 _ ht1).2
        cases hk1.symm.trans r1
        cases hkk1.symm.trans r2
        obtain ⟨kE, hkE, -⟩ := Vm.findClass_spec r3
        obtain ⟨kC', hkC', -⟩ := hal.2.2 _ _ hkC
        obtain ⟨kE', hkE', -⟩ := hal.2.2 _ _ hkE
        refine ⟨rfl, cellV, (show T.heap[y]? = some cellV by rw [hT]; exact g1), (fun q h => by rw [h] at g2; cases g2), ⟨kC', hkC'⟩, ?_, ?_⟩
        · exact ⟨kE', hkE'⟩
        · show vm₁.assignable _ _ = true
          rw [hal.assignable]
          exact hasg _ r3)
    (g := F0 m pc ls (.int n :: .int dp :: .ref a :: .int sp :: .ref a0 :: rest)) rfl (by rw [hml]) (rest := rest) rfl (by rw [hb]; exact hdg) hframes (by show 2 * 0 + _ + _ ≤ _; omega)
  have e1 : copied (vp_cell c0 (n0, .inr (.inr (.inr (.inr f))))) (vp_cell c1 (n1, .inr (.inr (.inr (.inr g))))) sp dp n = vp_cell c1 (n1, .inr (.inr (.inr (.inr (va_cpy f g sp.toNatClampNeg dp.toNatClampNeg n.toNatClampNeg))))) := by
    rw [vp_cell_q, vp_cell_q, vp_cell_q]
    exact va_copied (fun z => va_rf z) c0 c1 f g h4
  rw [e1] at X' step
  have hl : a < H.size := (Array.getElem?_eq_some_iff.mp hc1).1
  have hheap : ((T.setVm vm').setCell a (vp_cell c1 (n1, .inr (.inr (.inr (.inr (va_cpy f g sp.toNatClampNeg dp.toNatClampNeg n.toNatClampNeg))))))).heap = H.setIfInBounds a (vp_cell c1 (n1, .inr (.inr (.inr (.inr (va_cpy f g sp.toNatClampNeg dp.toNatClampNeg n.toNatClampNeg)))))) := by rw [← hT]; rfl
  have oq : ∀ q : Nat, q ≠ a → (H.setIfInBounds a (vp_cell c1 (n1, .inr (.inr (.inr (.inr (va_cpy f g sp.toNatClampNeg dp.toNatClampNeg n.toNatClampNeg)))))))[q]? = H[q]? := fun q hq => by simp [Array.getElem?_setIfInBounds, Ne.symm hq]
  obtain ⟨t, a1, b1⟩ := kk _ _ (hP.set hD ha1 (show (H.setIfInBounds a _)[a]? = some _ by simp [Array.getElem?_setIfInBounds, hl]) oq) (hD.set ha1) ⟨by simp; exact hS.1, fun q g1 g2 => by
      rw [oq q (fun e => g2 (by rw [e]; exact hD.2 q1 _ ha1))]
      exact hS.2.1 q g1 g2, fun q hq => by
      rcases List.mem_append.mp hq with h | h
      · exact hS.2.2 q h
      · obtain ⟨z, -, hz⟩ := List.mem_map.mp h
        rw [← hz]
        exact hD.2 q1 _ ha1⟩ _ hheap X'
  exact ⟨t, step t a1, b1⟩
end JCP
section JHEAP2
variable {g : jG} {Y : jY} {bg : va_W} {own : String} {cc : ByteArray} {lev U : Nat} {wss : List va_W} {u pc q : Nat} {L : List (Option Value)} {st : List Value}
theorem jin {i n : Nat} (h : i < n) (hn : i < 2 ^ 31) : vp_in (nI i) n := by
  unfold vp_in
  rw [nI_clamp hn]
  rintro (h2 | h2)
  · exact nI_pos hn h2
  · omega
theorem j_iast (o : jOk g Y bg own cc lev U) {a n i : Nat} {f : Nat → Int32} {x : Int32} {w : va_W} (hd : decode cc pc = .ok (.iastore, 1)) (k9 j : Nat) (h1 : wss[k9]? = some w) (h2 : w[j]? = some (a, eA g 0 n f)) (hi : i < n) (hn : i < 2 ^ 31) (e : pc + 1 = q) (k : J g Y (wss.set k9 (w.set j (a, eA g 0 n (upd f i x)))) u q L st) : J g Y wss u pc L (.int x :: .int (nI i) :: .ref a :: st) := by
  subst e
  intro H locs ls hw hl2
  refine va_iast o.ex o.co o.ka hw.1 hw.2.1 hw.2.2 (jix wss k9 j) 0 (jfl_get wss k9 j h1 h2) rfl (jin hi hn) hd (fun H1 locs1 p1 p2 p3 => ?_)
  rw [jfl_set wss k9 j h1 h2, nI_clamp hn] at p1 p2
  exact k H1 locs1 ls ⟨p1, p2, p3⟩ hl2
theorem j_zast (o : jOk g Y bg own cc lev U) {a n i : Nat} {f : Nat → Int32} {x y : Int32} {w : va_W} (hd : decode cc pc = .ok (.bastore, 1)) (k9 j : Nat) (h1 : wss[k9]? = some w) (h2 : w[j]? = some (a, eA g 1 n f)) (hi : i < n) (hn : i < 2 ^ 31) (hx : vp_nar .boolean x = y) (e : pc + 1 = q) (k : J g Y (wss.set k9 (w.set j (a, eA g 1 n (upd f i y)))) u q L st) : J g Y wss u pc L (.int x :: .int (nI i) :: .ref a :: st) := by
  subst e
  subst hx
  intro H locs ls hw hl2
  refine va_zast o.ex o.co o.ka hw.1 hw.2.1 hw.2.2 (jix wss k9 j) 1 (jfl_get wss k9 j h1 h2) rfl (jin hi hn) hd (fun H1 locs1 p1 p2 p3 => ?_)
  rw [jfl_set wss k9 j h1 h2, nI_clamp hn] at p1 p2
  exact k H1 locs1 ls ⟨p1, p2, p3⟩ hl2
theorem j_bast (o : jOk g Y bg own cc lev U) {a n i : Nat} {f : Nat → Int32} {x y : Int32} {w : va_W} (hd : decode cc pc = .ok (.bastore, 1)) (k9 j : Nat) (h1 : wss[k9]? = some w) (h2 : w[j]? = some (a, eA g 2 n f)) (hi : i < n) (hn : i < 2 ^ 31) (hx : vp_nar .byte x = y) (e : pc + 1 = q) (k : J g Y (wss.set k9 (w.set j (a, eA g 2 n (upd f i y)))) u q L st) : J g Y wss u pc L (.int x :: .int (nI i) :: .ref a :: st) := by
  subst e
  subst hx
  intro H locs ls hw hl2
  refine va_bast o.ex o.co o.ka hw.1 hw.2.1 hw.2.2 (jix wss k9 j) 2 (jfl_get wss k9 j h1 h2) rfl (jin hi hn) hd (fun H1 locs1 p1 p2 p3 => ?_)
  rw [jfl_set wss k9 j h1 h2, nI_clamp hn] at p1 p2
  exact k H1 locs1 ls ⟨p1, p2, p3⟩ hl2
/-- a row of Objects: any cell of the world or the background -/
theorem j_aast (o : jOk g Y bg own cc lev U) {a n i v : Nat} {e9 : va_E} {f : Nat → Option Nat} {w : va_W} (hd : decode cc pc = .ok (.aastore, 1)) (k9 j : Nat) (h1 : wss[k9]? = some w) (h2 : w[j]? = some (a, eQ g 3 n f)) (hv : jM Y bg wss (v, e9)) (ht : jTy g (v, e9)) (hi : i < n) (hn : i < 2 ^ 31) (e : pc + 1 = q) (k : J g Y (wss.set k9 (w.set j (a, eQ g 3 n (va_up f i (some v))))) u q L st) : J g Y wss u pc L (.ref v :: .int (nI i) :: .ref a :: st) := by
  subst e
  intro H locs ls hw hl2
  refine va_astqM o.ex o.co o.ka hw.1 hw.2.1 hw.2.2 (jix wss k9 j) 3 (jfl_get wss k9 j h1 h2) rfl (jAny o hw hv ht) (jin hi hn) hd (fun H1 locs1 p1 p2 p3 => ?_)
  rw [jfl_set wss k9 j h1 h2, nI_clamp hn] at p1 p2
  exact k H1 locs1 ls ⟨p1, p2, p3⟩ hl2
/-- may lie in a row of Objects: a cell at hand, or a small Integer of the cache -/
def jEl (g : jG) (Y : jY) (bg : va_W) (wss : List va_W) (v : Nat) : Prop := (∃ e9 : va_E, jM Y bg wss (v, e9) ∧ jTy g (v, e9)) ∨ ∃ k, k < 256 ∧ v = jad g (10 + k)
theorem jEl.any (o : jOk g Y bg own cc lev U) {H : Heap} {locs : List Loc} (hw : jW g Y wss H locs) {v : Nat} (h : jEl g Y bg wss v) : va_Any "java/lang/Object" (yS Y) H v := by
  rcases h with ⟨e9, h1, h2⟩ | ⟨k, hk, rfl⟩
  · exact jAny o hw h1 h2
  · obtain ⟨-, -, -, -, -, -, -, hC, -⟩ := o.kf
    obtain ⟨cell, g1, g2, g3, g4⟩ := hC.1 k hk
    obtain ⟨kC, hkC, -⟩ := Vm.findClass_spec g3
    refine ⟨cell, by rw [hw.2.2.2.1 _ (Array.getElem?_eq_some_iff.mp g1).1 g4]; exact g1, g2, ⟨kC, hkC⟩, fun comp hc => ?_⟩
    obtain ⟨c0, t0, f1, f2, f3⟩ := Cond.castable_spec (va_Nw.use (A := #[]) rfl (o.cast q2073))
    cases g3.symm.trans f1
    cases hc.symm.trans f2
    exact f3
theorem j_aastE (o : jOk g Y bg own cc lev U) {a n i v : Nat} {f : Nat → Option Nat} {w : va_W} (hd : decode cc pc = .ok (.aastore, 1)) (k9 j : Nat) (h1 : wss[k9]? = some w) (h2 : w[j]? = some (a, eQ g 3 n f)) (hv : jEl g Y bg wss v) (hi : i < n) (hn : i < 2 ^ 31) (e : pc + 1 = q) (k : J g Y (wss.set k9 (w.set j (a, eQ g 3 n (va_up f i (some v))))) u q L st) : J g Y wss u pc L (.ref v :: .int (nI i) :: .ref a :: st) := by
  subst e
  intro H locs ls hw hl2
  refine va_astqM o.ex o.co o.ka hw.1 hw.2.1 hw.2.2 (jix wss k9 j) 3 (jfl_get wss k9 j h1 h2) rfl (hv.any o hw) (jin hi hn) hd (fun H1 locs1 p1 p2 p3 => ?_)
  rw [jfl_set wss k9 j h1 h2, nI_clamp hn] at p1 p2
  exact k H1 locs1 ls ⟨p1, p2, p3⟩ hl2
theorem j_aastN (o : jOk g Y bg own cc lev U) {a n i t : Nat} {C : String} {f : Nat → Option Nat} {w : va_W} (hd : decode cc pc = .ok (.aastore, 1)) (k9 j : Nat) (h1 : wss[k9]? = some w) (h2 : w[j]? = some (a, eQ g t n f)) (ht : (jT g)[t]? = some (g.2.1 t, .object C)) (hi : i < n) (hn : i < 2 ^ 31) (e : pc + 1 = q) (k : J g Y (wss.set k9 (w.set j (a, eQ g t n (va_up f i none)))) u q L st) : J g Y wss u pc L (.null :: .int (nI i) :: .ref a :: st) := by
  subst e
  intro H locs ls hw hl2
  refine va_astqN o.ex o.co o.ka hw.1 hw.2.1 hw.2.2 (jix wss k9 j) t (jfl_get wss k9 j h1 h2) ht (jin hi hn) hd (fun H1 locs1 p1 p2 p3 => ?_)
  rw [jfl_set wss k9 j h1 h2, nI_clamp hn] at p1 p2
  exact k H1 locs1 ls ⟨p1, p2, p3⟩ hl2
/-- a row of a kind's own objects -/
theorem j_aastY (o : jOk g Y bg own cc lev U) {a n i v ci t : Nat} {vs : List Value} {r : vw_C} {f : Nat → Option Nat} {w w2 : va_W} (hd : decode cc pc = .ok (.aastore, 1)) (k9 j : Nat) (h1 : wss[k9]? = some w) (h2 : w[j]? = some (a, eQ g t n f)) (k8 j8 : Nat) (h3 : wss[k8]? = some w2) (h4 : w2[j8]? = some (v, .inr (ci, vs))) (hc : CL[ci]? = some r) (ht : (jT g)[t]? = some (g.2.1 t, .object r.1)) (hi : i < n) (hn : i < 2 ^ 31) (e : pc + 1 = q) (k : J g Y (wss.set k9 (w.set j (a, eQ g t n (va_up f i (some v))))) u q L st) : J g Y wss u pc L (.ref v :: .int (nI i) :: .ref a :: st) := by
  subst e
  intro H locs ls hw hl2
  refine va_astq o.ex o.co o.ka hw.1 hw.2.1 hw.2.2 (jix wss k9 j) t (jix wss k8 j8) ci (jfl_get wss k9 j h1 h2) ht (jfl_get wss k8 j8 h3 h4) hc (jin hi hn) hd (fun H1 locs1 p1 p2 p3 => ?_)
  rw [jfl_set wss k9 j h1 h2, nI_clamp hn] at p1 p2
  exact k H1 locs1 ls ⟨p1, p2, p3⟩ hl2
/-- checkcast: null, or an object of a known kind -/
theorem j_castN (o : jOk g Y bg own cc lev U) {index : Nat} (hd : decode cc pc = .ok (.checkcast index, 3)) (e : pc + 3 = q) (k : J g Y wss u q L (.null :: st)) : J g Y wss u pc L (.null :: st) := by
  subst e
  exact fun H locs ls hw hl => lv_castN o.ex o.co hd (k H locs ls hw hl)
theorem jrecv (o : jOk g Y bg own cc lev U) {H : Heap} {locs : List Loc} (hw : jW g Y wss H locs) {a ci : Nat} {fs : List Value} {r : vw_C} (hm : jM Y bg wss (a, .inr (ci, fs))) (hc : CL[ci]? = some r) : ∃ cell : Cell, H[a]? = some cell ∧ cell.vm.isStatics = false ∧ (yS Y).vm.findClass r.1 = some cell.cls := va_recv (q0 := 0) (fs := fs) (ws := [(a, .inr (ci, fs))]) o.ka (jone (jM_at o hw hm)) hc rfl
theorem j_castS (o : jOk g Y bg own cc lev U) {a ci index : Nat} {fs : List Value} {r : vw_C} (hd : decode cc pc = .ok (.checkcast index, 3)) (hl : Cond.classLink own index r.1 ∈ lw_all) (hm : jM Y bg wss (a, .inr (ci, fs))) (hc : CL[ci]? = some r) (e : pc + 3 = q) (k : J g Y wss u q L (.ref a :: st)) : J g Y wss u pc L (.ref a :: st) := by
  subst e
  exact fun H locs ls hw hl2 => va_castS o.ex o.co o.ow (o.wd _ hl) (o.ka.1 ci r hc).2 (jrecv o hw hm hc) hd (k H locs ls hw hl2)
theorem j_castY (o : jOk g Y bg own cc lev U) {a ci index : Nat} {fs : List Value} {r : vw_C} {nm : String} (hd : decode cc pc = .ok (.checkcast index, 3)) (hl : Cond.classLink own index nm ∈ lw_all) (hy : Cond.castable r.1 nm ∈ lw_tbl) (hm : jM Y bg wss (a, .inr (ci, fs))) (hc : CL[ci]? = some r) (e : pc + 3 = q) (k : J g Y wss u q L (.ref a :: st)) : J g Y wss u pc L (.ref a :: st) := by
  subst e
  exact fun H locs ls hw hl2 => va_castY o.ex o.co o.ow (o.wd _ hl) (o.cast hy) (jrecv o hw hm hc) hd (k H locs ls hw hl2)
theorem j_castA (o : jOk g Y bg own cc lev U) {a t index : Nat} {x : vp_A} {nm : String} (hd : decode cc pc = .ok (.checkcast index, 3)) (hl : Cond.classLink own index nm ∈ lw_all) (hm : jM Y bg wss (a, .inl (g.2.1 t, x))) (hn : ∀ U : State, va_K g.1 CL (jT g) U → U.vm.findClass nm = some (g.2.1 t)) (e : pc + 3 = q) (k : J g Y wss u q L (.ref a :: st)) : J g Y wss u pc L (.ref a :: st) := by
  subst e
  exact fun H locs ls hw hl2 => va_castA o.ex o.co o.ow (o.wd _ hl) (jone (jM_at o hw hm)) 0 rfl (hn _ o.ka) hd (k H locs ls hw hl2)
theorem jnmI {U : State} (h : va_K g.1 CL (jT g) U) : U.vm.findClass "[I" = some (g.2.1 0) := (h.2 0 _ rfl).2
theorem jnmZ {U : State} (h : va_K g.1 CL (jT g) U) : U.vm.findClass "[Z" = some (g.2.1 1) := (h.2 1 _ rfl).2
theorem jnmB {U : State} (h : va_K g.1 CL (jT g) U) : U.vm.findClass "[B" = some (g.2.1 2) := (h.2 2 _ rfl).2
theorem jnmO {U : State} (h : va_K g.1 CL (jT g) U) : U.vm.findClass "[Ljava/lang/Object;" = some (g.2.1 3) := va_nmO (h.2 3 _ rfl).2 rfl
/-- a static that nobody writes -/
theorem j_gs (o : jOk g Y bg own cc lev U) {C n d : String} {v : Value} {index : Nat} (hd : decode cc pc = .ok (.getstatic index, 3)) (hZ : va_Z C n d v (yA Y) (yS Y) (yS Y).heap) (hl : Cond.fieldLink own index C n d ∈ lw_all) (e : pc + 3 = q) (k : J g Y wss u q L (v :: st)) : J g Y wss u pc L st := by
  subst e
  exact fun H locs ls hw hl2 => va_gets o.ex o.co hZ hw.2.2 o.ow (o.wd _ hl) (fun _ h => h) hd (k H locs ls hw hl2)
theorem j_tlen (o : jOk g Y bg own cc lev U) {ty : FieldType} {t N : Nat} {f : Nat → Value} (hd : decode cc pc = .ok (.arraylength, 1)) (hT : va_T ty t N f (yA Y) (yS Y) (yS Y).heap) (e : pc + 1 = q) (k : J g Y wss u q L (.int (nI N) :: st)) : J g Y wss u pc L (.ref t :: st) := by
  subst e
  exact fun H locs ls hw hl2 => va_tlen o.ex o.co hT hw.2.2 rfl hd (k H locs ls hw hl2)
theorem j_tb (o : jOk g Y bg own cc lev U) {t N i : Nat} {f : Nat → Value} {v : Value} (hd : decode cc pc = .ok (.baload, 1)) (hT : va_T .byte t N f (yA Y) (yS Y) (yS Y).heap) (hi : i < N) (hn : i < 2 ^ 31) (hv : f i = v) (e : pc + 1 = q) (k : J g Y wss u q L (v :: st)) : J g Y wss u pc L (.int (nI i) :: .ref t :: st) := by
  subst e
  exact fun H locs ls hw hl2 => va_tb o.ex o.co hT hw.2.2 (jin hi hn) (by rw [nI_clamp hn]; exact hv) hd (k H locs ls hw hl2)
theorem j_tq (o : jOk g Y bg own cc lev U) {C : String} {t N i : Nat} {f : Nat → Value} {v : Value} (hd : decode cc pc = .ok (.aaload, 1)) (hT : va_T (.object C) t N f (yA Y) (yS Y) (yS Y).heap) (hi : i < N) (hn : i < 2 ^ 31) (hv : f i = v) (e : pc + 1 = q) (k : J g Y wss u q L (v :: st)) : J g Y wss u pc L (.int (nI i) :: .ref t :: st) := by
  subst e
  exact fun H locs ls hw hl2 => vb_tq o.ex o.co hT hw.2.2 (jin hi hn) (by rw [nI_clamp hn]; exact hv) hd (k H locs ls hw hl2)
theorem j_ldcS (o : jOk g Y bg own cc lev U) {tx : String} {index a : Nat} (hd : decode cc pc = .ok (.ldc index, 2)) (hR : vk_R own index tx a (yS Y)) (e : pc + 2 = q) (k : J g Y wss u q L (.ref a :: st)) : J g Y wss u pc L st := by
  subst e
  exact fun H locs ls hw hl2 => va_ldcS o.ex o.co o.ow hR hd (k H locs ls hw hl2)
theorem j_ldcM (o : jOk g Y bg own cc lev U) {C : String} {index a : Nat} (hd : decode cc pc = .ok (.ldc index, 2)) (hM : va_Mi C a (yS Y)) (hl : Cond.classLink own index C ∈ lw_all) (e : pc + 2 = q) (k : J g Y wss u q L (.ref a :: st)) : J g Y wss u pc L st := by
  subst e
  exact fun H locs ls hw hl2 => va_ldcM o.ex o.co o.ow (o.wd _ hl) hM hd (k H locs ls hw hl2)
/-- System.arraycopy of Objects -/
theorem j_copyQ (o : jOk g Y bg own cc lev U) (hlv : 1 ≤ lev) {index a0 a n0 n1 sp dp n : Nat} {f f1 : Nat → Option Nat} {w : va_W} (hd : decode cc pc = .ok (.invokestatic index, 3)) (hl : Cond.methodLink own index arraycopyName ∈ lw_all) (k9 j : Nat) (h1 : wss[k9]? = some w) (h2 : w[j]? = some (a, eQ g 3 n1 f1)) (hm0 : jM Y bg wss (a0, eQ g 3 n0 f)) (hel : ∀ i : Nat, i < n → ∀ y : Nat, f (sp + i) = some y → jEl g Y bg wss y) (hs1 : sp + n ≤ n0) (hs2 : dp + n ≤ n1) (hb0 : n0 < 2 ^ 31) (hb1 : n1 < 2 ^ 31) (hst : (st.map fun v => v.category).sum ≤ 40) (e : pc + 3 = q) (k : J g Y (wss.set k9 (w.set j (a, eQ g 3 n1 (va_cpy f f1 sp dp n)))) u q L st) : J g Y wss u pc L (.int (nI n) :: .int (nI dp) :: .ref a :: .int (nI sp) :: .ref a0 :: st) := by
  subst e
  intro H locs ls hw hl2
  have hf := o.rf
  have hll := o.rl
  have c1 : (nI sp).toNatClampNeg = sp := nI_clamp (by omega)
  have c2 : (nI dp).toNatClampNeg = dp := nI_clamp (by omega)
  have c3 : (nI n).toNatClampNeg = n := nI_clamp (by omega)
  have hnw : nativeFrameWords "java/lang/System" "arraycopy" 5 = 7 := by decide
  refine jw_copyM o.ex o.co (by rw [o.ml, hl2.1]) o.ow (o.wd _ hl) (o.wd _ q286) (o.wd _ q285) (o.wd _ q75) o.ka hw.1 hw.2.1 hw.2.2 (jix wss k9 j) 3 3 (jM_at o hw hm0) (jfl_get wss k9 j h1 h2) rfl rfl (nI_pos (by omega)) (nI_pos (by omega)) (nI_pos (by omega)) (by rw [c1, c3]; exact hs1) (by rw [c2, c3]; exact hs2) (fun i hi y hy => (hel i (by rw [c3] at hi; exact hi) y (by rw [c1] at hy; exact hy)).any o hw) (by omega) (by rw [hnw]; omega) hd (fun H1 locs1 p1 p2 p3 => ?_)
  rw [jfl_set wss k9 j h1 h2, c1, c2, c3] at p1 p2
  exact k H1 locs1 ls ⟨p1, p2, p3⟩ hl2
/-- System.arraycopy of small numbers (t: 0 ints, 1 booleans, 2 bytes) -/
theorem j_copyA (o : jOk g Y bg own cc lev U) (hlv : 1 ≤ lev) {index a0 a n0 n1 sp dp n : Nat} {f f1 : Nat → Int32} {w : va_W} {ty : FieldType} (t : Nat) (ht : (jT g)[t]? = some (g.2.1 t, ty)) (hprim : refKind ty = false) (hd : decode cc pc = .ok (.invokestatic index, 3)) (hl : Cond.methodLink own index arraycopyName ∈ lw_all) (k9 j : Nat) (h1 : wss[k9]? = some w) (h2 : w[j]? = some (a, eA g t n1 f1)) (hm0 : jM Y bg wss (a0, eA g t n0 f)) (hfit : ∀ i : Nat, i < n → fits ty (.int (f (sp + i))) = true) (hs1 : sp + n ≤ n0) (hs2 : dp + n ≤ n1) (hb0 : n0 < 2 ^ 31) (hb1 : n1 < 2 ^ 31) (hst : (st.map fun v => v.category).sum ≤ 40) (e : pc + 3 = q) (k : J g Y (wss.set k9 (w.set j (a, eA g t n1 (va_cpy f f1 sp dp n)))) u q L st) : J g Y wss u pc L (.int (nI n) :: .int (nI dp) :: .ref a :: .int (nI sp) :: .ref a0 :: st) := by
  subst e
  intro H locs ls hw hl2
  have hf := o.rf
  have hll := o.rl
  have c1 : (nI sp).toNatClampNeg = sp := nI_clamp (by omega)
  have c2 : (nI dp).toNatClampNeg = dp := nI_clamp (by omega)
  have c3 : (nI n).toNatClampNeg = n := nI_clamp (by omega)
  have hnw : nativeFrameWords "java/lang/System" "arraycopy" 5 = 7 := by decide
  refine jw_copyi o.ex o.co (by rw [o.ml, hl2.1]) o.ow (o.wd _ hl) (o.wd _ q286) (o.wd _ q285) (o.wd _ q75) o.ka hw.1 hw.2.1 hw.2.2 (jix wss k9 j) t t (jM_at o hw hm0) (jfl_get wss k9 j h1 h2) ht ht hprim (nI_pos (by omega)) (nI_pos (by omega)) (nI_pos (by omega)) (by rw [c1, c3]; exact hs1) (by rw [c2, c3]; exact hs2) (fun i hi => by rw [c1]; exact hfit i (by rw [c3] at hi; exact hi)) (by omega) (by rw [hnw]; omega) hd (fun H1 locs1 p1 p2 p3 => ?_)
  rw [jfl_set wss k9 j h1 h2, c1, c2, c3] at p1 p2
  exact k H1 locs1 ls ⟨p1, p2, p3⟩ hl2
/-- Object.<init> -/
theorem j_obj (o : jOk g Y bg own cc lev U) (hlv : 1 ≤ lev) {a index : Nat} (hd : decode cc pc = .ok (.invokespecial index, 3)) (hl : Cond.methodLink own index Lib.objectInit ∈ lw_all) (hi : Cond.instanceMethod Lib.objectInit ∈ lw_all) (hc : Cond.code Lib.objectInit ⟨#[0xb1]⟩ 1 none ∈ lw_all) (hst : (st.map fun v => v.category).sum ≤ 40) (e : pc + 3 = q) (k : J g Y wss u q L st) : J g Y wss u pc L (.ref a :: st) := by
  subst e
  intro H locs ls hw hl2
  have hf := o.rf
  have hll := o.rl
  exact W.objInit o.ex o.co o.ow (o.wd _ hl) (o.wd _ hi) (o.wd _ hc) rfl (by rw [o.ml]; exact hl2.1) rfl hd (by omega) (by show 2 * 0 + _ + 12 ≤ _; omega) (k H locs ls hw hl2)
/-- Object.getClass of an array of Objects: a cell of the world or the background, or one of the two empty ones -/
theorem j_getC (o : jOk g Y bg own cc lev U) (hlv : 1 ≤ lev) {a index : Nat} (hd : decode cc pc = .ok (.invokevirtual index, 3)) (hl : Cond.methodLink own index ⟨"java/lang/Object", "getClass", "()Ljava/lang/Class;"⟩ ∈ lw_all) (hm : (∃ x : vp_A, jM Y bg wss (a, .inl (g.2.1 3, x))) ∨ a = jad g 0 ∨ a = jad g 1) (hst : (st.map fun v => v.category).sum ≤ 40) (e : pc + 3 = q) (k : J g Y wss u q L (.ref (jad g 6) :: st)) : J g Y wss u pc L (.ref a :: st) := by
  subst e
  intro H locs ls hw hl2
  have hf := o.rf
  have hll := o.rl
  have hdec : (Cond.declares ⟨"java/lang/Object", "getClass", "()Ljava/lang/Class;"⟩).before (yV Y) (yS Y) = true := va_Nw.use rfl (o.decl q1771)
  obtain ⟨-, -, -, -, -, -, -, -, -, hM⟩ := o.kr
  refine va_getC o.ex o.co (by rw [o.ml, hl2.1]) o.ow (o.wd _ hl) hdec (o.wd _ q2088) (o.wd _ q248) (o.wd _ q274) hM ?_ (by omega) (by omega) hd (k H locs ls hw hl2)
  rcases hm with ⟨x, hm⟩ | hm | hm
  · have h := jM_at o hw hm
    have hx : H[a]? = some (vp_cell (g.2.1 3) x) := h
    refine ⟨_, hx, ?_, ?_⟩
    · obtain ⟨n, y⟩ := x
      rcases y with y | y | y | y | y <;> rfl
    · have hcls : (vp_cell (g.2.1 3) x).cls = g.2.1 3 := by
        obtain ⟨n, y⟩ := x
        rcases y with y | y | y | y | y <;> rfl
      rw [hcls]
      exact jnmO o.ka
  · subst hm
    obtain ⟨-, -, -, -, -, -, -, -, -, -, -, -, -, -, ⟨cell, h1, h2, h3, h4⟩, -⟩ := o.kf
    exact ⟨cell, by rw [hw.2.2.2.1 _ (Array.getElem?_eq_some_iff.mp h1).1 h4]; exact h1, h2, h3⟩
  · subst hm
    obtain ⟨-, -, -, -, -, -, -, -, -, -, -, -, -, -, -, ⟨cell, h1, h2, h3, h4⟩⟩ := o.kf
    exact ⟨cell, by rw [hw.2.2.2.1 _ (Array.getElem?_eq_some_iff.mp h1).1 h4]; exact h1, h2, h3⟩
/-- an array of references told by another list of the same contents -/
theorem j_fn {a k9 j t n : Nat} {f f2 : Nat → Option Nat} {w : va_W} (h1 : wss[k9]? = some w) (h2 : w[j]? = some (a, eQ g t n f)) (h : ∀ i, i < n → f i = f2 i) (k : J g Y (wss.set k9 (w.set j (a, eQ g t n f2))) u pc L st) : J g Y wss u pc L st := by
  intro H locs ls hw hl
  refine k H locs ls ⟨?_, ?_, hw.2.2⟩ hl
  · rw [← jfl_set wss k9 j h1 h2]
    refine hw.1.set hw.2.1 (jfl_get wss k9 j h1 h2) ?_ (fun _ _ => rfl)
    have h3 : H[a]? = some (vp_cell (g.2.1 t) (n, .inr (.inr (.inr (.inr f))))) := hw.1 _ _ (jfl_get wss k9 j h1 h2)
    show H[a]? = some (vp_cell (g.2.1 t) (n, .inr (.inr (.inr (.inr f2)))))
    rw [h3, vp_cell_q, vp_cell_q]
    congr 1
    unfold arrV
    congr 1
    first | (apply Array.ext' ; simp only [Array.toList_ofFn]; congr 1; funext i; rw [h i.1 i.2]) | (congr 1; apply List.map_congr_left; intro i hi; rw [h i (List.mem_range.mp hi)]) | skip
  · rw [← jfl_set wss k9 j h1 h2]
    exact hw.2.1.set (jfl_get wss k9 j h1 h2)
end JHEAP2
section JHEAP3
variable {g : jG} {Y : jY} {bg : va_W} {own : String} {cc : ByteArray} {lev U : Nat} {wss : List va_W} {u pc q : Nat} {L : List (Option Value)} {st : List Value}
/-- an array of small numbers told by another list of the same contents -/
theorem j_fnA {a k9 j t n : Nat} {f f2 : Nat → Int32} {w : va_W} (h1 : wss[k9]? = some w) (h2 : w[j]? = some (a, eA g t n f)) (h : ∀ i, i < n → f i = f2 i) (k : J g Y (wss.set k9 (w.set j (a, eA g t n f2))) u pc L st) : J g Y wss u pc L st := by
  intro H locs ls hw hl
  refine k H locs ls ⟨?_, ?_, hw.2.2⟩ hl
  · rw [← jfl_set wss k9 j h1 h2]
    refine hw.1.set hw.2.1 (jfl_get wss k9 j h1 h2) ?_ (fun _ _ => rfl)
    have h3 : H[a]? = some (vp_cell (g.2.1 t) (n, .inl f)) := hw.1 _ _ (jfl_get wss k9 j h1 h2)
    show H[a]? = some (vp_cell (g.2.1 t) (n, .inl f2))
    rw [h3]
    show some (arrV (g.2.1 t) n (fun j => .int (f j))) = some (arrV (g.2.1 t) n (fun j => .int (f2 j)))
    congr 1
    unfold arrV
    congr 1
    apply Array.ext'
    simp only [Array.toList_ofFn]
    congr 1
    funext i
    rw [h i.1 i.2]
  · rw [← jfl_set wss k9 j h1 h2]
    exact hw.2.1.set (jfl_get wss k9 j h1 h2)
/-- System.arraycopy of nothing, out of an array that stands for good -/
theorem j_copyT0 (o : jOk g Y bg own cc lev U) (hlv : 1 ≤ lev) {index a0 a n1 : Nat} {E0 : String} {f0 : Nat → Value} {f1 : Nat → Option Nat} (hd : decode cc pc = .ok (.invokestatic index, 3)) (hl : Cond.methodLink own index arraycopyName ∈ lw_all) (hm : jM Y bg wss (a, eQ g 3 n1 f1)) (hT : va_T (.object E0) a0 0 f0 (yA Y) (yS Y) (yS Y).heap) (hst : (st.map fun v => v.category).sum ≤ 40) (e : pc + 3 = q) (k : J g Y wss u q L st) : J g Y wss u pc L (.int (nI 0) :: .int (nI 0) :: .ref a :: .int (nI 0) :: .ref a0 :: st) := by
  subst e
  intro H locs ls hw hl2 T hT2 X
  have hf := o.rf
  have hll := o.rl
  have hnw : nativeFrameWords "java/lang/System" "arraycopy" 5 = 7 := by decide
  obtain ⟨cs, g1, g2, g3, g4, g5, g6, g7⟩ := hT
  have hc1 : H[a]? = some (vp_cell (g.2.1 3) (n1, .inr (.inr (.inr (.inr f1))))) := jM_at o hw hm
  have hc0 : H[a0]? = some cs := by rw [hw.2.2.2.1 a0 (Array.getElem?_eq_some_iff.mp g1).1 g7]; exact g1
  obtain ⟨s0, k0, hk0, cm0, hkk0⟩ := g2
  obtain ⟨-, k1, hk1, cm1, hkk1⟩ := (o.ka.2 3 _ (rfl : (jT g)[3]? = some (g.2.1 3, .object "java/lang/Object"))).1 n1 (fun j => va_rf (f1 j))
  obtain ⟨vm', X', step⟩ := X.arraycopy o.ex o.ow (o.wd _ hl) (o.wd _ q286) (o.wd _ q285) (o.wd _ q75) (src := a0) (dst := a) (cs := cs) (cd := vp_cell (g.2.1 3) (n1, .inr (.inr (.inr (.inr f1))))) (srcPos := nI 0) (destPos := nI 0) (n := nI 0) (by rw [hT2]; exact hc0) (by rw [hT2]; exact hc1)
    s0 (fun _ h => by cases h) g3 (fun h => by cases h) hk0 hk1 hkk0 hkk1 rfl (by decide) (by decide) (by decide)
    (by show ¬ ((0 : Int) + 0 > (cs.slots.size : Int)); omega) (by show ¬ ((0 : Int) + 0 > (_ : Int)); omega)
    (fun vm₁ hal i hi => absurd hi (Nat.not_lt_zero i))
    (g := F0 (yM Y) pc ls (.int (nI 0) :: .int (nI 0) :: .ref a :: .int (nI 0) :: .ref a0 :: st)) rfl (by rw [o.ml]; exact hl2.1) (rest := st) rfl (by rw [o.co]; exact hd) (by omega) (by show 2 * 0 + _ + (nativeFrameWords "java/lang/System" "arraycopy" 5 + 11) ≤ _; rw [hnw]; omega)
  have e1 : copied cs (vp_cell (g.2.1 3) (n1, .inr (.inr (.inr (.inr f1))))) (nI 0) (nI 0) (nI 0) = vp_cell (g.2.1 3) (n1, .inr (.inr (.inr (.inr f1)))) := rfl
  rw [e1] at X' step
  have hx : (T.setVm vm').setCell a (vp_cell (g.2.1 3) (n1, .inr (.inr (.inr (.inr f1))))) = T.setVm vm' := State.setCell_held (show (T.setVm vm').heap[a]? = some _ by rw [← hc1, ← hT2]; rfl)
  rw [hx] at X' step
  have e2 : (locs ++ (cs.stretch (nI 0).toNatClampNeg (nI 0).toNatClampNeg).zipIdx.map fun q => (⟨a, (nI 0).toNatClampNeg + q.2⟩ : Loc)) = locs := List.append_nil _
  rw [e2] at X'
  obtain ⟨t, a1, b1⟩ := k H locs ls hw hl2 (T.setVm vm') hT2 X'
  exact ⟨t, step t a1, b1⟩
end JHEAP3

/-! PURE ROWS of the J layer (written by gen/rows.py) -/
set_option maxRecDepth 100000
def jc1 : Option Value → Bool
  | some v => v.category != 2
  | none => true
theorem jlv_mem : ∀ (L : List (Option Value)) (o j : Nat) (v : Value), (j, v) ∈ jlv o L ↔ ∃ m, j = o + m ∧ L[m]? = some (some v)
  | [], o, j, v => by simp [jlv]
  | none :: L, o, j, v => by
    rw [jlv, jlv_mem L (o + 1) j v]
    constructor
    · rintro ⟨m, h1, h2⟩
      exact ⟨m + 1, by omega, by simpa using h2⟩
    · rintro ⟨m, h1, h2⟩
      cases m with
      | zero => simp at h2
      | succ m => exact ⟨m, by omega, by simpa using h2⟩
  | some w :: L, o, j, v => by
    rw [jlv, List.mem_cons, jlv_mem L (o + 1) j v]
    constructor
    · rintro (h | ⟨m, h1, h2⟩)
      · cases h; exact ⟨0, by omega, by simp⟩
      · exact ⟨m + 1, by omega, by simpa using h2⟩
    · rintro ⟨m, h1, h2⟩
      cases m with
      | zero => simp at h2; subst h2; left; rw [h1]; simp
      | succ m => right; exact ⟨m, by omega, by simpa using h2⟩
theorem jl_at {ls : Array Slot} {n : Nat} {L : List (Option Value)} {i : Nat} {v : Value} (h : lv_has ls n (jlv 0 L)) (hi : L[i]? = some (some v)) : ls[i]? = some (.val v) := h.2.2 (i, v) ((jlv_mem L 0 i v).mpr ⟨i, by omega, hi⟩)
theorem jl_sz {ls : Array Slot} {n : Nat} {L : List (Option Value)} {i : Nat} {v : Value} (h : lv_has ls n (jlv 0 L)) (hi : L[i]? = some (some v)) : i < n := by
  have h1 := jl_at h hi
  have h2 := (Array.getElem?_eq_some_iff.mp h1).1
  rw [h.1] at h2
  exact h2
theorem jst_core {ls : Array Slot} {n i : Nat} {v : Value} {L : List (Option Value)} (h : lv_has ls n ((i, v) :: (jlv 0 L).filter (fun q => !(q.1 == i) && !(q.1 + 1 == i && q.2.category == 2)))) (hp : ∀ k w, i = k + 1 → L[k]? = some (some w) → w.category ≠ 2) : lv_has ls n (jlv 0 (L.set i (some v))) := by
  refine ⟨h.1, h.2.1, fun q hq => ?_⟩
  obtain ⟨j, w⟩ := q
  obtain ⟨m, h1, h2⟩ := (jlv_mem _ _ _ _).mp hq
  have hj : j = m := by omega
  subst hj
  by_cases hi : i = j
  · subst hi
    have hl : i < L.length := by have := (List.getElem?_eq_some_iff.mp h2).1; simpa using this
    rw [List.getElem?_set_self hl] at h2
    cases h2
    exact h.2.2 _ List.mem_cons_self
  · rw [List.getElem?_set_ne hi] at h2
    refine h.2.2 _ (List.mem_cons_of_mem _ (List.mem_filter.mpr ⟨(jlv_mem _ _ _ _).mpr ⟨j, by omega, h2⟩, ?_⟩))
    simp only [Bool.and_eq_true, Bool.not_eq_true', beq_eq_false_iff_ne, ne_eq, Bool.and_eq_false_iff]
    refine ⟨fun q => hi q.symm, ?_⟩
    by_cases hk : j + 1 = i
    · exact Or.inr (hp j w hk.symm h2)
    · exact Or.inl hk
theorem jst_core2 {ls : Array Slot} {n i : Nat} {v : Value} {L : List (Option Value)} (h : lv_has ls n ((i, v) :: (jlv 0 L).filter (fun q => !(q.1 == i) && (!(q.1 == i + 1) && !(q.1 + 1 == i && q.2.category == 2))))) (hp : ∀ k w, i = k + 1 → L[k]? = some (some w) → w.category ≠ 2) : lv_has ls n (jlv 0 ((L.set i (some v)).set (i + 1) none)) := by
  refine ⟨h.1, h.2.1, fun q hq => ?_⟩
  obtain ⟨j, w⟩ := q
  obtain ⟨m, h1, h2⟩ := (jlv_mem _ _ _ _).mp hq
  have hj : j = m := by omega
  subst hj
  by_cases hi1 : i + 1 = j
  · subst hi1
    have hl : i + 1 < (L.set i (some v)).length := by have := (List.getElem?_eq_some_iff.mp h2).1; simpa using this
    rw [List.getElem?_set_self hl] at h2
    cases h2
  · rw [List.getElem?_set_ne hi1] at h2
    by_cases hi : i = j
    · subst hi
      have hl : i < L.length := by have := (List.getElem?_eq_some_iff.mp h2).1; simpa using this
      rw [List.getElem?_set_self hl] at h2
      cases h2
      exact h.2.2 _ List.mem_cons_self
    · rw [List.getElem?_set_ne hi] at h2
      refine h.2.2 _ (List.mem_cons_of_mem _ (List.mem_filter.mpr ⟨(jlv_mem _ _ _ _).mpr ⟨j, by omega, h2⟩, ?_⟩))
      simp only [Bool.and_eq_true, Bool.not_eq_true', beq_eq_false_iff_ne, ne_eq, Bool.and_eq_false_iff]
      refine ⟨fun q => hi q.symm, fun q => hi1 q.symm, ?_⟩
      by_cases hk : j + 1 = i
      · exact Or.inr (hp j w hk.symm h2)
      · exact Or.inl hk
section JROWS
variable {g : jG} {Y : jY} {bg : va_W} {own : String} {cc : ByteArray} {lev U : Nat} {wss : List va_W} {u pc q : Nat} {L : List (Option Value)} {st : List Value}
theorem j_iconst (o : jOk g Y bg own cc lev U) {n : Int} (v : Int32) (hd : decode cc pc = .ok (.iconst n, 1)) (hv : Int32.ofInt n = v) (e : pc + 1 = q) (k : J g Y wss u q L (.int v :: st)) : J g Y wss u pc L (st) := by
  subst e
  exact fun H locs ls hw hl => lv_iconst o.ex o.co hd hv (k H locs ls hw hl)
theorem j_bipush (o : jOk g Y bg own cc lev U) {n : Int} (v : Int32) (hd : decode cc pc = .ok (.bipush n, 2)) (hv : (Int8.ofInt n).toInt32 = v) (e : pc + 2 = q) (k : J g Y wss u q L (.int v :: st)) : J g Y wss u pc L (st) := by
  subst e
  exact fun H locs ls hw hl => lv_bipush o.ex o.co hd hv (k H locs ls hw hl)
theorem j_sipush (o : jOk g Y bg own cc lev U) {n : Int} (v : Int32) (hd : decode cc pc = .ok (.sipush n, 3)) (hv : (Int16.ofInt n).toInt32 = v) (e : pc + 3 = q) (k : J g Y wss u q L (.int v :: st)) : J g Y wss u pc L (st) := by
  subst e
  exact fun H locs ls hw hl => lv_sipush o.ex o.co hd hv (k H locs ls hw hl)
theorem j_lconst (o : jOk g Y bg own cc lev U) {n : Fin 2} (v : Int64) (hd : decode cc pc = .ok (.lconst n, 1)) (hv : Int64.ofNat (n : Nat) = v) (e : pc + 1 = q) (k : J g Y wss u q L (.long v :: st)) : J g Y wss u pc L (st) := by
  subst e
  exact fun H locs ls hw hl => lv_lconst o.ex o.co hd hv (k H locs ls hw hl)
theorem j_null (o : jOk g Y bg own cc lev U) (hd : decode cc pc = .ok (.aconst_null, 1)) (e : pc + 1 = q) (k : J g Y wss u q L (.null :: st)) : J g Y wss u pc L st := by
  subst e
  exact fun H locs ls hw hl => lv_null o.ex o.co hd (k H locs ls hw hl)
theorem j_ldc (o : jOk g Y bg own cc lev U) {index : Nat} {v : Int32} (hd : decode cc pc = .ok (.ldc index, 2)) (hc : Jvm.Cond.constant own index v ∈ lw_all) (e : pc + 2 = q) (k : J g Y wss u q L (.int v :: st)) : J g Y wss u pc L st := by
  subst e
  exact fun H locs ls hw hl => lv_ldc o.ex o.co o.ow (o.wd _ hc) hd (k H locs ls hw hl)
theorem j_ldcw (o : jOk g Y bg own cc lev U) {index : Nat} {v : Int32} (hd : decode cc pc = .ok (.ldc_w index, 3)) (hc : Jvm.Cond.constant own index v ∈ lw_all) (e : pc + 3 = q) (k : J g Y wss u q L (.int v :: st)) : J g Y wss u pc L st := by
  subst e
  exact fun H locs ls hw hl => lv_ldcw o.ex o.co o.ow (o.wd _ hc) hd (k H locs ls hw hl)
theorem j_ldc2 (o : jOk g Y bg own cc lev U) {index : Nat} {v : Int64} (hd : decode cc pc = .ok (.ldc2_w index, 3)) (hc : Jvm.Cond.constantLong own index v ∈ lw_all) (e : pc + 3 = q) (k : J g Y wss u q L (.long v :: st)) : J g Y wss u pc L st := by
  subst e
  exact fun H locs ls hw hl => lv_ldc2 o.ex o.co o.ow (o.wd _ hc) hd (k H locs ls hw hl)
theorem j_ild_n (o : jOk g Y bg own cc lev U) {k9 : Fin 4} {x : Int32} (hd : decode cc pc = .ok (.iload_n k9, 1)) (hx : L[(k9 : Nat)]? = some (some (.int x))) (e : pc + 1 = q) (k : J g Y wss u q L (.int x :: st)) : J g Y wss u pc L st := by
  subst e
  exact fun H locs ls hw hl => lv_iload_n o.ex o.co hd rfl (jl_at hl hx) (k H locs ls hw hl)
theorem j_ild (o : jOk g Y bg own cc lev U) {i : Nat} {x : Int32} (hd : decode cc pc = .ok (.iload i, 2)) (hx : L[i]? = some (some (.int x))) (e : pc + 2 = q) (k : J g Y wss u q L (.int x :: st)) : J g Y wss u pc L st := by
  subst e
  exact fun H locs ls hw hl => lv_iload o.ex o.co hd (jl_at hl hx) (k H locs ls hw hl)
theorem j_lld_n (o : jOk g Y bg own cc lev U) {k9 : Fin 4} {x : Int64} (hd : decode cc pc = .ok (.lload_n k9, 1)) (hx : L[(k9 : Nat)]? = some (some (.long x))) (e : pc + 1 = q) (k : J g Y wss u q L (.long x :: st)) : J g Y wss u pc L st := by
  subst e
  exact fun H locs ls hw hl => lv_lload_n o.ex o.co hd rfl (jl_at hl hx) (k H locs ls hw hl)
theorem j_lld (o : jOk g Y bg own cc lev U) {i : Nat} {x : Int64} (hd : decode cc pc = .ok (.lload i, 2)) (hx : L[i]? = some (some (.long x))) (e : pc + 2 = q) (k : J g Y wss u q L (.long x :: st)) : J g Y wss u pc L st := by
  subst e
  exact fun H locs ls hw hl => lv_lload o.ex o.co hd (jl_at hl hx) (k H locs ls hw hl)
def jrv : Value → Bool
  | .ref _ => true
  | .null => true
  | _ => false
theorem jrv_or {v : Value} (h : jrv v = true) : v = .null ∨ ∃ a, v = .ref a := by
  cases v <;> first | exact Or.inl rfl | exact Or.inr ⟨_, rfl⟩ | exact absurd h (by simp [jrv])
theorem j_ald_n (o : jOk g Y bg own cc lev U) {k9 : Fin 4} {x : Value} (hd : decode cc pc = .ok (.aload_n k9, 1)) (hx : L[(k9 : Nat)]? = some (some x)) (hr : jrv x = true) (e : pc + 1 = q) (k : J g Y wss u q L (x :: st)) : J g Y wss u pc L st := by
  subst e
  intro H locs ls hw hl
  rcases jrv_or hr with rfl | ⟨a, rfl⟩
  · exact lv_aload_nN o.ex o.co hd rfl (jl_at hl hx) (k H locs ls hw hl)
  · exact lv_aload_n o.ex o.co hd rfl (jl_at hl hx) (k H locs ls hw hl)
theorem j_ald (o : jOk g Y bg own cc lev U) {i : Nat} {x : Value} (hd : decode cc pc = .ok (.aload i, 2)) (hx : L[i]? = some (some x)) (hr : jrv x = true) (e : pc + 2 = q) (k : J g Y wss u q L (x :: st)) : J g Y wss u pc L st := by
  subst e
  intro H locs ls hw hl
  rcases jrv_or hr with rfl | ⟨a, rfl⟩
  · exact lv_aloadN o.ex o.co hd (jl_at hl hx) (k H locs ls hw hl)
  · exact lv_aload o.ex o.co hd (jl_at hl hx) (k H locs ls hw hl)
theorem j_istG_n (o : jOk g Y bg own cc lev U) {k9 : Fin 4} {i : Nat} {x : Int32} (hd : decode cc pc = .ok (.istore_n k9, 1)) (hi : (k9 : Nat) = i) (hn : i < yN Y) (hp : ∀ k w, i = k + 1 → L[k]? = some (some w) → w.category ≠ 2) (e : pc + 1 = q) (k : J g Y wss u q (L.set i (some (.int x))) st) : J g Y wss u pc L (.int x :: st) := by
  subst e
  exact fun H locs ls hw hl => lv_istore_n o.ex o.co hd hi hl hn rfl (fun ls2 h2 => k H locs ls2 hw (jst_core h2 hp))
theorem j_istG (o : jOk g Y bg own cc lev U) {i : Nat} {x : Int32} (hd : decode cc pc = .ok (.istore i, 2))  (hn : i < yN Y) (hp : ∀ k w, i = k + 1 → L[k]? = some (some w) → w.category ≠ 2) (e : pc + 2 = q) (k : J g Y wss u q (L.set i (some (.int x))) st) : J g Y wss u pc L (.int x :: st) := by
  subst e
  exact fun H locs ls hw hl => lv_istore o.ex o.co hd hl hn rfl (fun ls2 h2 => k H locs ls2 hw (jst_core h2 hp))
theorem j_astG_n (o : jOk g Y bg own cc lev U) {k9 : Fin 4} {i : Nat} {x : Value} (hd : decode cc pc = .ok (.astore_n k9, 1)) (hi : (k9 : Nat) = i) (hr : jrv x = true) (hn : i < yN Y) (hp : ∀ k w, i = k + 1 → L[k]? = some (some w) → w.category ≠ 2) (e : pc + 1 = q) (k : J g Y wss u q (L.set i (some x)) st) : J g Y wss u pc L (x :: st) := by
  subst e
  intro H locs ls hw hl
  rcases jrv_or hr with rfl | ⟨a, rfl⟩
  · exact lv_astore_nN o.ex o.co hd hi hl hn rfl (fun ls2 h2 => k H locs ls2 hw (jst_core h2 hp))
  · exact lv_astore_n o.ex o.co hd hi hl hn rfl (fun ls2 h2 => k H locs ls2 hw (jst_core h2 hp))
theorem j_astG (o : jOk g Y bg own cc lev U) {i : Nat} {x : Value} (hd : decode cc pc = .ok (.astore i, 2))  (hr : jrv x = true) (hn : i < yN Y) (hp : ∀ k w, i = k + 1 → L[k]? = some (some w) → w.category ≠ 2) (e : pc + 2 = q) (k : J g Y wss u q (L.set i (some x)) st) : J g Y wss u pc L (x :: st) := by
  subst e
  intro H locs ls hw hl
  rcases jrv_or hr with rfl | ⟨a, rfl⟩
  · exact lv_astoreN o.ex o.co hd hl hn rfl (fun ls2 h2 => k H locs ls2 hw (jst_core h2 hp))
  · exact lv_astore o.ex o.co hd hl hn rfl (fun ls2 h2 => k H locs ls2 hw (jst_core h2 hp))
theorem j_lstG_n (o : jOk g Y bg own cc lev U) {k9 : Fin 4} {i : Nat} {x : Int64} (hd : decode cc pc = .ok (.lstore_n k9, 1)) (hi : (k9 : Nat) = i) (hn : i + 1 < yN Y) (hp : ∀ k w, i = k + 1 → L[k]? = some (some w) → w.category ≠ 2) (e : pc + 1 = q) (k : J g Y wss u q ((L.set i (some (.long x))).set (i + 1) none) st) : J g Y wss u pc L (.long x :: st) := by
  subst e
  exact fun H locs ls hw hl => lv_lstore_n o.ex o.co hd hi hl hn rfl (fun ls2 h2 => k H locs ls2 hw (jst_core2 h2 hp))
theorem j_lstG (o : jOk g Y bg own cc lev U) {i : Nat} {x : Int64} (hd : decode cc pc = .ok (.lstore i, 2))  (hn : i + 1 < yN Y) (hp : ∀ k w, i = k + 1 → L[k]? = some (some w) → w.category ≠ 2) (e : pc + 2 = q) (k : J g Y wss u q ((L.set i (some (.long x))).set (i + 1) none) st) : J g Y wss u pc L (.long x :: st) := by
  subst e
  exact fun H locs ls hw hl => lv_lstore o.ex o.co hd hl hn rfl (fun ls2 h2 => k H locs ls2 hw (jst_core2 h2 hp))
theorem j_incG (o : jOk g Y bg own cc lev U) {i : Nat} {x : Int32} {n : Int} (v : Int32) (hd : decode cc pc = .ok (.iinc i n, 3)) (hx : L[i]? = some (some (.int x))) (hv : x + Int32.ofInt n = v) (hp : ∀ k w, i = k + 1 → L[k]? = some (some w) → w.category ≠ 2) (e : pc + 3 = q) (k : J g Y wss u q (L.set i (some (.int v))) st) : J g Y wss u pc L st := by
  subst e
  intro H locs ls hw hl
  obtain ⟨m, hm⟩ := List.getElem?_of_mem ((jlv_mem L 0 i (.int x)).mpr ⟨i, by omega, hx⟩)
  exact lv_iinc o.ex o.co hd hl hm hv (jl_sz hl hx) rfl (fun ls2 h2 => k H locs ls2 hw (jst_core h2 hp))
theorem jp_of {L : List (Option Value)} {i : Nat} {a : Option Value} (ha : L[i]? = some a) (h : jc1 a = true) : ∀ k w, i + 1 = k + 1 → L[k]? = some (some w) → w.category ≠ 2 := by
  intro k w e hk
  have : i = k := by omega
  subst this
  rw [ha] at hk
  cases hk
  simpa [jc1] using h
theorem jp_0 {L : List (Option Value)} : ∀ k w, 0 = k + 1 → L[k]? = some (some w) → w.category ≠ 2 := fun k w e => by omega
theorem j_ist0 (o : jOk g Y bg own cc lev U) {a0 : Option Value} {x : Int32} (hd : decode cc pc = .ok (.istore_n 0, 1)) (hn : 0 < yN Y) (e : pc + 1 = q) (k : J g Y wss u q (some (.int x) :: L) st) : J g Y wss u pc (a0 :: L) (.int x :: st) := j_istG_n (L := a0 :: L) o (i := 0) hd rfl hn jp_0 e k
theorem j_ast0 (o : jOk g Y bg own cc lev U) {a0 : Option Value} {x : Value} (hd : decode cc pc = .ok (.astore_n 0, 1)) (hr : jrv x = true) (hn : 0 < yN Y) (e : pc + 1 = q) (k : J g Y wss u q (some (x) :: L) st) : J g Y wss u pc (a0 :: L) (x :: st) := j_astG_n (L := a0 :: L) o (i := 0) hd rfl hr hn jp_0 e k
theorem j_lst0 (o : jOk g Y bg own cc lev U) {a0 b : Option Value} {x : Int64} (hd : decode cc pc = .ok (.lstore_n 0, 1)) (hn : 0 + 1 < yN Y) (e : pc + 1 = q) (k : J g Y wss u q (some (.long x) :: none :: L) st) : J g Y wss u pc (a0 :: b :: L) (.long x :: st) := j_lstG_n (L := a0 :: b :: L) o (i := 0) hd rfl hn jp_0 e k
theorem j_inc0 (o : jOk g Y bg own cc lev U)  {x : Int32} {n : Int} (v : Int32) (hd : decode cc pc = .ok (.iinc 0 n, 3)) (hv : x + Int32.ofInt n = v) (e : pc + 3 = q) (k : J g Y wss u q (some (.int v) :: L) st) : J g Y wss u pc (some (.int x) :: L) st := j_incG (L := some (.int x) :: L) o (i := 0) v hd rfl hv jp_0 e k
theorem j_ist1 (o : jOk g Y bg own cc lev U) {a0 a1 : Option Value} {x : Int32} (hd : decode cc pc = .ok (.istore_n 1, 1)) (hp : jc1 a0 = true) (hn : 1 < yN Y) (e : pc + 1 = q) (k : J g Y wss u q (a0 :: some (.int x) :: L) st) : J g Y wss u pc (a0 :: a1 :: L) (.int x :: st) := j_istG_n (L := a0 :: a1 :: L) o (i := 1) hd rfl hn (jp_of (i := 0) rfl hp) e k
theorem j_ast1 (o : jOk g Y bg own cc lev U) {a0 a1 : Option Value} {x : Value} (hd : decode cc pc = .ok (.astore_n 1, 1)) (hr : jrv x = true) (hp : jc1 a0 = true) (hn : 1 < yN Y) (e : pc + 1 = q) (k : J g Y wss u q (a0 :: some (x) :: L) st) : J g Y wss u pc (a0 :: a1 :: L) (x :: st) := j_astG_n (L := a0 :: a1 :: L) o (i := 1) hd rfl hr hn (jp_of (i := 0) rfl hp) e k
theorem j_lst1 (o : jOk g Y bg own cc lev U) {a0 a1 b : Option Value} {x : Int64} (hd : decode cc pc = .ok (.lstore_n 1, 1)) (hp : jc1 a0 = true) (hn : 1 + 1 < yN Y) (e : pc + 1 = q) (k : J g Y wss u q (a0 :: some (.long x) :: none :: L) st) : J g Y wss u pc (a0 :: a1 :: b :: L) (.long x :: st) := j_lstG_n (L := a0 :: a1 :: b :: L) o (i := 1) hd rfl hn (jp_of (i := 0) rfl hp) e k
theorem j_inc1 (o : jOk g Y bg own cc lev U) {a0 : Option Value} {x : Int32} {n : Int} (v : Int32) (hd : decode cc pc = .ok (.iinc 1 n, 3)) (hv : x + Int32.ofInt n = v) (hp : jc1 a0 = true) (e : pc + 3 = q) (k : J g Y wss u q (a0 :: some (.int v) :: L) st) : J g Y wss u pc (a0 :: some (.int x) :: L) st := j_incG (L := a0 :: some (.int x) :: L) o (i := 1) v hd rfl hv (jp_of (i := 0) rfl hp) e k
theorem j_ist2 (o : jOk g Y bg own cc lev U) {a0 a1 a2 : Option Value} {x : Int32} (hd : decode cc pc = .ok (.istore_n 2, 1)) (hp : jc1 a1 = true) (hn : 2 < yN Y) (e : pc + 1 = q) (k : J g Y wss u q (a0 :: a1 :: some (.int x) :: L) st) : J g Y wss u pc (a0 :: a1 :: a2 :: L) (.int x :: st) := j_istG_n (L := a0 :: a1 :: a2 :: L) o (i := 2) hd rfl hn (jp_of (i := 1) rfl hp) e k
theorem j_ast2 (o : jOk g Y bg own cc lev U) {a0 a1 a2 : Option Value} {x : Value} (hd : decode cc pc = .ok (.astore_n 2, 1)) (hr : jrv x = true) (hp : jc1 a1 = true) (hn : 2 < yN Y) (e : pc + 1 = q) (k : J g Y wss u q (a0 :: a1 :: some (x) :: L) st) : J g Y wss u pc (a0 :: a1 :: a2 :: L) (x :: st) := j_astG_n (L := a0 :: a1 :: a2 :: L) o (i := 2) hd rfl hr hn (jp_of (i := 1) rfl hp) e k
theorem j_lst2 (o : jOk g Y bg own cc lev U) {a0 a1 a2 b : Option Value} {x : Int64} (hd : decode cc pc = .ok (.lstore_n 2, 1)) (hp : jc1 a1 = true) (hn : 2 + 1 < yN Y) (e : pc + 1 = q) (k : J g Y wss u q (a0 :: a1 :: some (.long x) :: none :: L) st) : J g Y wss u pc (a0 :: a1 :: a2 :: b :: L) (.long x :: st) := j_lstG_n (L := a0 :: a1 :: a2 :: b :: L) o (i := 2) hd rfl hn (jp_of (i := 1) rfl hp) e k
theorem j_inc2 (o : jOk g Y bg own cc lev U) {a0 a1 : Option Value} {x : Int32} {n : Int} (v : Int32) (hd : decode cc pc = .ok (.iinc 2 n, 3)) (hv : x + Int32.ofInt n = v) (hp : jc1 a1 = true) (e : pc + 3 = q) (k : J g Y wss u q (a0 :: a1 :: some (.int v) :: L) st) : J g Y wss u pc (a0 :: a1 :: some (.int x) :: L) st := j_incG (L := a0 :: a1 :: some (.int x) :: L) o (i := 2) v hd rfl hv (jp_of (i := 1) rfl hp) e k
theorem j_ist3 (o : jOk g Y bg own cc lev U) {a0 a1 a2 a3 : Option Value} {x : Int32} (hd : decode cc pc = .ok (.istore_n 3, 1)) (hp : jc1 a2 = true) (hn : 3 < yN Y) (e : pc + 1 = q) (k : J g Y wss u q (a0 :: a1 :: a2 :: some (.int x) :: L) st) : J g Y wss u pc (a0 :: a1 :: a2 :: a3 :: L) (.int x :: st) := j_istG_n (L := a0 :: a1 :: a2 :: a3 :: L) o (i := 3) hd rfl hn (jp_of (i := 2) rfl hp) e k
theorem j_ast3 (o : jOk g Y bg own cc lev U) {a0 a1 a2 a3 : Option Value} {x : Value} (hd : decode cc pc = .ok (.astore_n 3, 1)) (hr : jrv x = true) (hp : jc1 a2 = true) (hn : 3 < yN Y) (e : pc + 1 = q) (k : J g Y wss u q (a0 :: a1 :: a2 :: some (x) :: L) st) : J g Y wss u pc (a0 :: a1 :: a2 :: a3 :: L) (x :: st) := j_astG_n (L := a0 :: a1 :: a2 :: a3 :: L) o (i := 3) hd rfl hr hn (jp_of (i := 2) rfl hp) e k
theorem j_lst3 (o : jOk g Y bg own cc lev U) {a0 a1 a2 a3 b : Option Value} {x : Int64} (hd : decode cc pc = .ok (.lstore_n 3, 1)) (hp : jc1 a2 = true) (hn : 3 + 1 < yN Y) (e : pc + 1 = q) (k : J g Y wss u q (a0 :: a1 :: a2 :: some (.long x) :: none :: L) st) : J g Y wss u pc (a0 :: a1 :: a2 :: a3 :: b :: L) (.long x :: st) := j_lstG_n (L := a0 :: a1 :: a2 :: a3 :: b :: L) o (i := 3) hd rfl hn (jp_of (i := 2) rfl hp) e k
theorem j_inc3 (o : jOk g Y bg own cc lev U) {a0 a1 a2 : Option Value} {x : Int32} {n : Int} (v : Int32) (hd : decode cc pc = .ok (.iinc 3 n, 3)) (hv : x + Int32.ofInt n = v) (hp : jc1 a2 = true) (e : pc + 3 = q) (k : J g Y wss u q (a0 :: a1 :: a2 :: some (.int v) :: L) st) : J g Y wss u pc (a0 :: a1 :: a2 :: some (.int x) :: L) st := j_incG (L := a0 :: a1 :: a2 :: some (.int x) :: L) o (i := 3) v hd rfl hv (jp_of (i := 2) rfl hp) e k
theorem j_ist4 (o : jOk g Y bg own cc lev U) {a0 a1 a2 a3 a4 : Option Value} {x : Int32} (hd : decode cc pc = .ok (.istore 4, 2)) (hp : jc1 a3 = true) (hn : 4 < yN Y) (e : pc + 2 = q) (k : J g Y wss u q (a0 :: a1 :: a2 :: a3 :: some (.int x) :: L) st) : J g Y wss u pc (a0 :: a1 :: a2 :: a3 :: a4 :: L) (.int x :: st) := j_istG (L := a0 :: a1 :: a2 :: a3 :: a4 :: L) o (i := 4) hd hn (jp_of (i := 3) rfl hp) e k
theorem j_ast4 (o : jOk g Y bg own cc lev U) {a0 a1 a2 a3 a4 : Option Value} {x : Value} (hd : decode cc pc = .ok (.astore 4, 2)) (hr : jrv x = true) (hp : jc1 a3 = true) (hn : 4 < yN Y) (e : pc + 2 = q) (k : J g Y wss u q (a0 :: a1 :: a2 :: a3 :: some (x) :: L) st) : J g Y wss u pc (a0 :: a1 :: a2 :: a3 :: a4 :: L) (x :: st) := j_astG (L := a0 :: a1 :: a2 :: a3 :: a4 :: L) o (i := 4) hd hr hn (jp_of (i := 3) rfl hp) e k
theorem j_lst4 (o : jOk g Y bg own cc lev U) {a0 a1 a2 a3 a4 b : Option Value} {x : Int64} (hd : decode cc pc = .ok (.lstore 4, 2)) (hp : jc1 a3 = true) (hn : 4 + 1 < yN Y) (e : pc + 2 = q) (k : J g Y wss u q (a0 :: a1 :: a2 :: a3 :: some (.long x) :: none :: L) st) : J g Y wss u pc (a0 :: a1 :: a2 :: a3 :: a4 :: b :: L) (.long x :: st) := j_lstG (L := a0 :: a1 :: a2 :: a3 :: a4 :: b :: L) o (i := 4) hd hn (jp_of (i := 3) rfl hp) e k
theorem j_inc4 (o : jOk g Y bg own cc lev U) {a0 a1 a2 a3 : Option Value} {x : Int32} {n : Int} (v : Int32) (hd : decode cc pc = .ok (.iinc 4 n, 3)) (hv : x + Int32.ofInt n = v) (hp : jc1 a3 = true) (e : pc + 3 = q) (k : J g Y wss u q (a0 :: a1 :: a2 :: a3 :: some (.int v) :: L) st) : J g Y wss u pc (a0 :: a1 :: a2 :: a3 :: some (.int x) :: L) st := j_incG (L := a0 :: a1 :: a2 :: a3 :: some (.int x) :: L) o (i := 4) v hd rfl hv (jp_of (i := 3) rfl hp) e k
theorem j_ist5 (o : jOk g Y bg own cc lev U) {a0 a1 a2 a3 a4 a5 : Option Value} {x : Int32} (hd : decode cc pc = .ok (.istore 5, 2)) (hp : jc1 a4 = true) (hn : 5 < yN Y) (e : pc + 2 = q) (k : J g Y wss u q (a0 :: a1 :: a2 :: a3 :: a4 :: some (.int x) :: L) st) : J g Y wss u pc (a0 :: a1 :: a2 :: a3 :: a4 :: a5 :: L) (.int x :: st) := j_istG (L := a0 :: a1 :: a2 :: a3 :: a4 :: a5 :: L) o (i := 5) hd hn (jp_of (i := 4) rfl hp) e k
theorem j_ast5 (o : jOk g Y bg own cc lev U) {a0 a1 a2 a3 a4 a5 : Option Value} {x : Value} (hd : decode cc pc = .ok (.astore 5, 2)) (hr : jrv x = true) (hp : jc1 a4 = true) (hn : 5 < yN Y) (e : pc + 2 = q) (k : J g Y wss u q (a0 :: a1 :: a2 :: a3 :: a4 :: some (x) :: L) st) : J g Y wss u pc (a0 :: a1 :: a2 :: a3 :: a4 :: a5 :: L) (x :: st) := j_astG (L := a0 :: a1 :: a2 :: a3 :: a4 :: a5 :: L) o (i := 5) hd hr hn (jp_of (i := 4) rfl hp) e k
theorem j_lst5 (o : jOk g Y bg own cc lev U) {a0 a1 a2 a3 a4 a5 b : Option Value} {x : Int64} (hd : decode cc pc = .ok (.lstore 5, 2)) (hp : jc1 a4 = true) (hn : 5 + 1 < yN Y) (e : pc + 2 = q) (k : J g Y wss u q (a0 :: a1 :: a2 :: a3 :: a4 :: some (.long x) :: none :: L) st) : J g Y wss u pc (a0 :: a1 :: a2 :: a3 :: a4 :: a5 :: b :: L) (.long x :: st) := j_lstG (L := a0 :: a1 :: a2 :: a3 :: a4 :: a5 :: b :: L) o (i := 5) hd hn (jp_of (i := 4) rfl hp) e k
theorem j_inc5 (o : jOk g Y bg own cc lev U) {a0 a1 a2 a3 a4 : Option Value} {x : Int32} {n : Int} (v : Int32) (hd : decode cc pc = .ok (.iinc 5 n, 3)) (hv : x + Int32.ofInt n = v) (hp : jc1 a4 = true) (e : pc + 3 = q) (k : J g Y wss u q (a0 :: a1 :: a2 :: a3 :: a4 :: some (.int v) :: L) st) : J g Y wss u pc (a0 :: a1 :: a2 :: a3 :: a4 :: some (.int x) :: L) st := j_incG (L := a0 :: a1 :: a2 :: a3 :: a4 :: some (.int x) :: L) o (i := 5) v hd rfl hv (jp_of (i := 4) rfl hp) e k
theorem j_ist6 (o : jOk g Y bg own cc lev U) {a0 a1 a2 a3 a4 a5 a6 : Option Value} {x : Int32} (hd : decode cc pc = .ok (.istore 6, 2)) (hp : jc1 a5 = true) (hn : 6 < yN Y) (e : pc + 2 = q) (k : J g Y wss u q (a0 :: a1 :: a2 :: a3 :: a4 :: a5 :: some (.int x) :: L) st) : J g Y wss u pc (a0 :: a1 :: a2 :: a3 :: a4 :: a5 :: a6 :: L) (.int x :: st) := j_istG (L := a0 :: a1 :: a2 :: a3 :: a4 :: a5 :: a6 :: L) o (i := 6) hd hn (jp_of (i := 5) rfl hp) e k
theorem j_ast6 (o : jOk g Y bg own cc lev U) {a0 a1 a2 a3 a4 a5 a6 : Option Value} {x : Value} (hd : decode cc pc = .ok (.astore 6, 2)) (hr : jrv x = true) (hp : jc1 a5 = true) (hn : 6 < yN Y) (e : pc + 2 = q) (k : J g Y wss u q (a0 :: a1 :: a2 :: a3 :: a4 :: a5 :: some (x) :: L) st) : J g Y wss u pc (a0 :: a1 :: a2 :: a3 :: a4 :: a5 :: a6 :: L) (x :: st) := j_astG (L := a0 :: a1 :: a2 :: a3 :: a4 :: a5 :: a6 :: L) o (i := 6) hd hr hn (jp_of (i := 5) rfl hp) e k
theorem j_lst6 (o : jOk g Y bg own cc lev U) {a0 a1 a2 a3 a4 a5 a6 b : Option Value} {x : Int64} (hd : decode cc pc = .ok (.lstore 6, 2)) (hp : jc1 a5 = true) (hn : 6 + 1 < yN Y) (e : pc + 2 = q) (k : J g Y wss u q (a0 :: a1 :: a2 :: a3 :: a4 :: a5 :: some (.long x) :: none :: L) st) : J g Y wss u pc (a0 :: a1 :: a2 :: a3 :: a4 :: a5 :: a6 :: b :: L) (.long x :: st) := j_lstG (L := a0 :: a1 :: a2 :: a3 :: a4 :: a5 :: a6 :: b :: L) o (i := 6) hd hn (jp_of (i := 5) rfl hp) e k
theorem j_inc6 (o : jOk g Y bg own cc lev U) {a0 a1 a2 a3 a4 a5 : Option Value} {x : Int32} {n : Int} (v : Int32) (hd : decode cc pc = .ok (.iinc 6 n, 3)) (hv : x + Int32.ofInt n = v) (hp : jc1 a5 = true) (e : pc + 3 = q) (k : J g Y wss u q (a0 :: a1 :: a2 :: a3 :: a4 :: a5 :: some (.int v) :: L) st) : J g Y wss u pc (a0 :: a1 :: a2 :: a3 :: a4 :: a5 :: some (.int x) :: L) st := j_incG (L := a0 :: a1 :: a2 :: a3 :: a4 :: a5 :: some (.int x) :: L) o (i := 6) v hd rfl hv (jp_of (i := 5) rfl hp) e k
theorem j_ist7 (o : jOk g Y bg own cc lev U) {a0 a1 a2 a3 a4 a5 a6 a7 : Option Value} {x : Int32} (hd : decode cc pc = .ok (.istore 7, 2)) (hp : jc1 a6 = true) (hn : 7 < yN Y) (e : pc + 2 = q) (k : J g Y wss u q (a0 :: a1 :: a2 :: a3 :: a4 :: a5 :: a6 :: some (.int x) :: L) st) : J g Y wss u pc (a0 :: a1 :: a2 :: a3 :: a4 :: a5 :: a6 :: a7 :: L) (.int x :: st) := j_istG (L := a0 :: a1 :: a2 :: a3 :: a4 :: a5 :: a6 :: a7 :: L) o (i := 7) hd hn (jp_of (i := 6) rfl hp) e k
theorem j_ast7 (o : jOk g Y bg own cc lev U) {a0 a1 a2 a3 a4 a5 a6 a7 : Option Value} {x : Value} (hd : decode cc pc = .ok (.astore 7, 2)) (hr : jrv x = true) (hp : jc1 a6 = true) (hn : 7 < yN Y) (e : pc + 2 = q) (k : J g Y wss u q (a0 :: a1 :: a2 :: a3 :: a4 :: a5 :: a6 :: some (x) :: L) st) : J g Y wss u pc (a0 :: a1 :: a2 :: a3 :: a4 :: a5 :: a6 :: a7 :: L) (x :: st) := j_astG (L := a0 :: a1 :: a2 :: a3 :: a4 :: a5 :: a6 :: a7 :: L) o (i := 7) hd hr hn (jp_of (i := 6) rfl hp) e k
theorem j_lst7 (o : jOk g Y bg own cc lev U) {a0 a1 a2 a3 a4 a5 a6 a7 b : Option Value} {x : Int64} (hd : decode cc pc = .ok (.lstore 7, 2)) (hp : jc1 a6 = true) (hn : 7 + 1 < yN Y) (e : pc + 2 = q) (k : J g Y wss u q (a0 :: a1 :: a2 :: a3 :: a4 :: a5 :: a6 :: some (.long x) :: none :: L) st) : J g Y wss u pc (a0 :: a1 :: a2 :: a3 :: a4 :: a5 :: a6 :: a7 :: b :: L) (.long x :: st) := j_lstG (L := a0 :: a1 :: a2 :: a3 :: a4 :: a5 :: a6 :: a7 :: b :: L) o (i := 7) hd hn (jp_of (i := 6) rfl hp) e k
theorem j_inc7 (o : jOk g Y bg own cc lev U) {a0 a1 a2 a3 a4 a5 a6 : Option Value} {x : Int32} {n : Int} (v : Int32) (hd : decode cc pc = .ok (.iinc 7 n, 3)) (hv : x + Int32.ofInt n = v) (hp : jc1 a6 = true) (e : pc + 3 = q) (k : J g Y wss u q (a0 :: a1 :: a2 :: a3 :: a4 :: a5 :: a6 :: some (.int v) :: L) st) : J g Y wss u pc (a0 :: a1 :: a2 :: a3 :: a4 :: a5 :: a6 :: some (.int x) :: L) st := j_incG (L := a0 :: a1 :: a2 :: a3 :: a4 :: a5 :: a6 :: some (.int x) :: L) o (i := 7) v hd rfl hv (jp_of (i := 6) rfl hp) e k
theorem j_ist8 (o : jOk g Y bg own cc lev U) {a0 a1 a2 a3 a4 a5 a6 a7 a8 : Option Value} {x : Int32} (hd : decode cc pc = .ok (.istore 8, 2)) (hp : jc1 a7 = true) (hn : 8 < yN Y) (e : pc + 2 = q) (k : J g Y wss u q (a0 :: a1 :: a2 :: a3 :: a4 :: a5 :: a6 :: a7 :: some (.int x) :: L) st) : J g Y wss u pc (a0 :: a1 :: a2 :: a3 :: a4 :: a5 :: a6 :: a7 :: a8 :: L) (.int x :: st) := j_istG (L := a0 :: a1 :: a2 :: a3 :: a4 :: a5 :: a6 :: a7 :: a8 :: L) o (i := 8) hd hn (jp_of (i := 7) rfl hp) e k
theorem j_ast8 (o : jOk g Y bg own cc lev U) {a0 a1 a2 a3 a4 a5 a6 a7 a8 : Option Value} {x : Value} (hd : decode cc pc = .ok (.astore 8, 2)) (hr : jrv x = true) (hp : jc1 a7 = true) (hn : 8 < yN Y) (e : pc + 2 = q) (k : J g Y wss u q (a0 :: a1 :: a2 :: a3 :: a4 :: a5 :: a6 :: a7 :: some (x) :: L) st) : J g Y wss u pc (a0 :: a1 :: a2 :: a3 :: a4 :: a5 :: a6 :: a7 :: a8 :: L) (x :: st) := j_astG (L := a0 :: a1 :: a2 :: a3 :: a4 :: a5 :: a6 :: a7 :: a8 :: L) o (i := 8) hd hr hn (jp_of (i := 7) rfl hp) e k
theorem j_lst8 (o : jOk g Y bg own cc lev U) {a0 a1 a2 a3 a4 a5 a6 a7 a8 b : Option Value} {x : Int64} (hd : decode cc pc = .ok (.lstore 8, 2)) (hp : jc1 a7 = true) (hn : 8 + 1 < yN Y) (e : pc + 2 = q) (k : J g Y wss u q (a0 :: a1 :: a2 :: a3 :: a4 :: a5 :: a6 :: a7 :: some (.long x) :: none :: L) st) : J g Y wss u pc (a0 :: a1 :: a2 :: a3 :: a4 :: a5 :: a6 :: a7 :: a8 :: b :: L) (.long x :: st) := j_lstG (L := a0 :: a1 :: a2 :: a3 :: a4 :: a5 :: a6 :: a7 :: a8 :: b :: L) o (i := 8) hd hn (jp_of (i := 7) rfl hp) e k
theorem j_inc8 (o : jOk g Y bg own cc lev U) {a0 a1 a2 a3 a4 a5 a6 a7 : Option Value} {x : Int32} {n : Int} (v : Int32) (hd : decode cc pc = .ok (.iinc 8 n, 3)) (hv : x + Int32.ofInt n = v) (hp : jc1 a7 = true) (e : pc + 3 = q) (k : J g Y wss u q (a0 :: a1 :: a2 :: a3 :: a4 :: a5 :: a6 :: a7 :: some (.int v) :: L) st) : J g Y wss u pc (a0 :: a1 :: a2 :: a3 :: a4 :: a5 :: a6 :: a7 :: some (.int x) :: L) st := j_incG (L := a0 :: a1 :: a2 :: a3 :: a4 :: a5 :: a6 :: a7 :: some (.int x) :: L) o (i := 8) v hd rfl hv (jp_of (i := 7) rfl hp) e k
theorem j_ist9 (o : jOk g Y bg own cc lev U) {a0 a1 a2 a3 a4 a5 a6 a7 a8 a9 : Option Value} {x : Int32} (hd : decode cc pc = .ok (.istore 9, 2)) (hp : jc1 a8 = true) (hn : 9 < yN Y) (e : pc + 2 = q) (k : J g Y wss u q (a0 :: a1 :: a2 :: a3 :: a4 :: a5 :: a6 :: a7 :: a8 :: some (.int x) :: L) st) : J g Y wss u pc (a0 :: a1 :: a2 :: a3 :: a4 :: a5 :: a6 :: a7 :: a8 :: a9 :: L) (.int x :: st) := j_istG (L := a0 :: a1 :: a2 :: a3 :: a4 :: a5 :: a6 :: a7 :: a8 :: a9 :: L) o (i := 9) hd hn (jp_of (i := 8) rfl hp) e k
theorem j_ast9 (o : jOk g Y bg own cc lev U) {a0 a1 a2 a3 a4 a5 a6 a7 a8 a9 : Option Value} {x : Value} (hd : decode cc pc = .ok (.astore 9, 2)) (hr : jrv x = true) (hp : jc1 a8 = true) (hn : 9 < yN Y) (e : pc + 2 = q) (k : J g Y wss u q (a0 :: a1 :: a2 :: a3 :: a4 :: a5 :: a6 :: a7 :: a8 :: some (x) :: L) st) : J g Y wss u pc (a0 :: a1 :: a2 :: a3 :: a4 :: a5 :: a6 :: a7 :: a8 :: a9 :: L) (x :: st) := j_astG (L := a0 :: a1 :: a2 :: a3 :: a4 :: a5 :: a6 :: a7 :: a8 :: a9 :: L) o (i := 9) hd hr hn (jp_of (i := 8) rfl hp) e k
theorem j_lst9 (o : jOk g Y bg own cc lev U) {a0 a1 a2 a3 a4 a5 a6 a7 a8 a9 b : Option Value} {x : Int64} (hd : decode cc pc = .ok (.lstore 9, 2)) (hp : jc1 a8 = true) (hn : 9 + 1 < yN Y) (e : pc + 2 = q) (k : J g Y wss u q (a0 :: a1 :: a2 :: a3 :: a4 :: a5 :: a6 :: a7 :: a8 :: some (.long x) :: none :: L) st) : J g Y wss u pc (a0 :: a1 :: a2 :: a3 :: a4 :: a5 :: a6 :: a7 :: a8 :: a9 :: b :: L) (.long x :: st) := j_lstG (L := a0 :: a1 :: a2 :: a3 :: a4 :: a5 :: a6 :: a7 :: a8 :: a9 :: b :: L) o (i := 9) hd hn (jp_of (i := 8) rfl hp) e k
theorem j_inc9 (o : jOk g Y bg own cc lev U) {a0 a1 a2 a3 a4 a5 a6 a7 a8 : Option Value} {x : Int32} {n : Int} (v : Int32) (hd : decode cc pc = .ok (.iinc 9 n, 3)) (hv : x + Int32.ofInt n = v) (hp : jc1 a8 = true) (e : pc + 3 = q) (k : J g Y wss u q (a0 :: a1 :: a2 :: a3 :: a4 :: a5 :: a6 :: a7 :: a8 :: some (.int v) :: L) st) : J g Y wss u pc (a0 :: a1 :: a2 :: a3 :: a4 :: a5 :: a6 :: a7 :: a8 :: some (.int x) :: L) st := j_incG (L := a0 :: a1 :: a2 :: a3 :: a4 :: a5 :: a6 :: a7 :: a8 :: some (.int x) :: L) o (i := 9) v hd rfl hv (jp_of (i := 8) rfl hp) e k
theorem j_ist10 (o : jOk g Y bg own cc lev U) {a0 a1 a2 a3 a4 a5 a6 a7 a8 a9 a10 : Option Value} {x : Int32} (hd : decode cc pc = .ok (.istore 10, 2)) (hp : jc1 a9 = true) (hn : 10 < yN Y) (e : pc + 2 = q) (k : J g Y wss u q (a0 :: a1 :: a2 :: a3 :: a4 :: a5 :: a6 :: a7 :: a8 :: a9 :: some (.int x) :: L) st) : J g Y wss u pc (a0 :: a1 :: a2 :: a3 :: a4 :: a5 :: a6 :: a7 :: a8 :: a9 :: a10 :: L) (.int x :: st) := j_istG (L := a0 :: a1 :: a2 :: a3 :: a4 :: a5 :: a6 :: a7 :: a8 :: a9 :: a10 :: L) o (i := 10) hd hn (jp_of (i := 9) rfl hp) e k
theorem j_ast10 (o : jOk g Y bg own cc lev U) {a0 a1 a2 a3 a4 a5 a6 a7 a8 a9 a10 : Option Value} {x : Value} (hd : decode cc pc = .ok (.astore 10, 2)) (hr : jrv x = true) (hp : jc1 a9 = true) (hn : 10 < yN Y) (e : pc + 2 = q) (k : J g Y wss u q (a0 :: a1 :: a2 :: a3 :: a4 :: a5 :: a6 :: a7 :: a8 :: a9 :: some (x) :: L) st) : J g Y wss u pc (a0 :: a1 :: a2 :: a3 :: a4 :: a5 :: a6 :: a7 :: a8 :: a9 :: a10 :: L) (x :: st) := j_astG (L := a0 :: a1 :: a2 :: a3 :: a4 :: a5 :: a6 :: a7 :: a8 :: a9 :: a10 :: L) o (i := 10) hd hr hn (jp_of (i := 9) rfl hp) e k
theorem j_lst10 (o : jOk g Y bg own cc lev U) {a0 a1 a2 a3 a4 a5 a6 a7 a8 a9 a10 b : Option Value} {x : Int64} (hd : decode cc pc = .ok (.lstore 10, 2)) (hp : jc1 a9 = true) (hn : 10 + 1 < yN Y) (e : pc + 2 = q) (k : J g Y wss u q (a0 :: a1 :: a2 :: a3 :: a4 :: a5 :: a6 :: a7 :: a8 :: a9 :: some (.long x) :: none :: L) st) : J g Y wss u pc (a0 :: a1 :: a2 :: a3 :: a4 :: a5 :: a6 :: a7 :: a8 :: a9 :: a10 :: b :: L) (.long x :: st) := j_lstG (L := a0 :: a1 :: a2 :: a3 :: a4 :: a5 :: a6 :: a7 :: a8 :: a9 :: a10 :: b :: L) o (i := 10) hd hn (jp_of (i := 9) rfl hp) e k
theorem j_inc10 (o : jOk g Y bg own cc lev U) {a0 a1 a2 a3 a4 a5 a6 a7 a8 a9 : Option Value} {x : Int32} {n : Int} (v : Int32) (hd : decode cc pc = .ok (.iinc 10 n, 3)) (hv : x + Int32.ofInt n = v) (hp : jc1 a9 = true) (e : pc + 3 = q) (k : J g Y wss u q (a0 :: a1 :: a2 :: a3 :: a4 :: a5 :: a6 :: a7 :: a8 :: a9 :: some (.int v) :: L) st) : J g Y wss u pc (a0 :: a1 :: a2 :: a3 :: a4 :: a5 :: a6 :: a7 :: a8 :: a9 :: some (.int x) :: L) st := j_incG (L := a0 :: a1 :: a2 :: a3 :: a4 :: a5 :: a6 :: a7 :: a8 :: a9 :: some (.int x) :: L) o (i := 10) v hd rfl hv (jp_of (i := 9) rfl hp) e k
theorem j_ist11 (o : jOk g Y bg own cc lev U) {a0 a1 a2 a3 a4 a5 a6 a7 a8 a9 a10 a11 : Option Value} {x : Int32} (hd : decode cc pc = .ok (.istore 11, 2)) (hp : jc1 a10 = true) (hn : 11 < yN Y) (e : pc + 2 = q) (k : J g Y wss u q (a0 :: a1 :: a2 :: a3 :: a4 :: a5 :: a6 :: a7 :: a8 :: a9 :: a10 :: some (.int x) :: L) st) : J g Y wss u pc (a0 :: a1 :: a2 :: a3 :: a4 :: a5 :: a6 :: a7 :: a8 :: a9 :: a10 :: a11 :: L) (.int x :: st) := j_istG (L := a0 :: a1 :: a2 :: a3 :: a4 :: a5 :: a6 :: a7 :: a8 :: a9 :: a10 :: a11 :: L) o (i := 11) hd hn (jp_of (i := 10) rfl hp) e k
theorem j_ast11 (o : jOk g Y bg own cc lev U) {a0 a1 a2 a3 a4 a5 a6 a7 a8 a9 a10 a11 : Option Value} {x : Value} (hd : decode cc pc = .ok (.astore 11, 2)) (hr : jrv x = true) (hp : jc1 a10 = true) (hn : 11 < yN Y) (e : pc + 2 = q) (k : J g Y wss u q (a0 :: a1 :: a2 :: a3 :: a4 :: a5 :: a6 :: a7 :: a8 :: a9 :: a10 :: some (x) :: L) st) : J g Y wss u pc (a0 :: a1 :: a2 :: a3 :: a4 :: a5 :: a6 :: a7 :: a8 :: a9 :: a10 :: a11 :: L) (x :: st) := j_astG (L := a0 :: a1 :: a2 :: a3 :: a4 :: a5 :: a6 :: a7 :: a8 :: a9 :: a10 :: a11 :: L) o (i := 11) hd hr hn (jp_of (i := 10) rfl hp) e k
theorem j_lst11 (o : jOk g Y bg own cc lev U) {a0 a1 a2 a3 a4 a5 a6 a7 a8 a9 a10 a11 b : Option Value} {x : Int64} (hd : decode cc pc = .ok (.lstore 11, 2)) (hp : jc1 a10 = true) (hn : 11 + 1 < yN Y) (e : pc + 2 = q) (k : J g Y wss u q (a0 :: a1 :: a2 :: a3 :: a4 :: a5 :: a6 :: a7 :: a8 :: a9 :: a10 :: some (.long x) :: none :: L) st) : J g Y wss u pc (a0 :: a1 :: a2 :: a3 :: a4 :: a5 :: a6 :: a7 :: a8 :: a9 :: a10 :: a11 :: b :: L) (.long x :: st) := j_lstG (L := a0 :: a1 :: a2 :: a3 :: a4 :: a5 :: a6 :: a7 :: a8 :: a9 :: a10 :: a11 :: b :: L) o (i := 11) hd hn (jp_of (i := 10) rfl hp) e k
theorem j_inc11 (o : jOk g Y bg own cc lev U) {a0 a1 a2 a3 a4 a5 a6 a7 a8 a9 a10 : Option Value} {x : Int32} {n : Int} (v : Int32) (hd : decode cc pc = .ok (.iinc 11 n, 3)) (hv : x + Int32.ofInt n = v) (hp : jc1 a10 = true) (e : pc + 3 = q) (k : J g Y wss u q (a0 :: a1 :: a2 :: a3 :: a4 :: a5 :: a6 :: a7 :: a8 :: a9 :: a10 :: some (.int v) :: L) st) : J g Y wss u pc (a0 :: a1 :: a2 :: a3 :: a4 :: a5 :: a6 :: a7 :: a8 :: a9 :: a10 :: some (.int x) :: L) st := j_incG (L := a0 :: a1 :: a2 :: a3 :: a4 :: a5 :: a6 :: a7 :: a8 :: a9 :: a10 :: some (.int x) :: L) o (i := 11) v hd rfl hv (jp_of (i := 10) rfl hp) e k
theorem j_ist12 (o : jOk g Y bg own cc lev U) {a0 a1 a2 a3 a4 a5 a6 a7 a8 a9 a10 a11 a12 : Option Value} {x : Int32} (hd : decode cc pc = .ok (.istore 12, 2)) (hp : jc1 a11 = true) (hn : 12 < yN Y) (e : pc + 2 = q) (k : J g Y wss u q (a0 :: a1 :: a2 :: a3 :: a4 :: a5 :: a6 :: a7 :: a8 :: a9 :: a10 :: a11 :: some (.int x) :: L) st) : J g Y wss u pc (a0 :: a1 :: a2 :: a3 :: a4 :: a5 :: a6 :: a7 :: a8 :: a9 :: a10 :: a11 :: a12 :: L) (.int x :: st) := j_istG (L := a0 :: a1 :: a2 :: a3 :: a4 :: a5 :: a6 :: a7 :: a8 :: a9 :: a10 :: a11 :: a12 :: L) o (i := 12) hd hn (jp_of (i := 11) rfl hp) e k
theorem j_ast12 (o : jOk g Y bg own cc lev U) {a0 a1 a2 a3 a4 a5 a6 a7 a8 a9 a10 a11 a12 : Option Value} {x : Value} (hd : decode cc pc = .ok (.astore 12, 2)) (hr : jrv x = true) (hp : jc1 a11 = true) (hn : 12 < yN Y) (e : pc + 2 = q) (k : J g Y wss u q (a0 :: a1 :: a2 :: a3 :: a4 :: a5 :: a6 :: a7 :: a8 :: a9 :: a10 :: a11 :: some (x) :: L) st) : J g Y wss u pc (a0 :: a1 :: a2 :: a3 :: a4 :: a5 :: a6 :: a7 :: a8 :: a9 :: a10 :: a11 :: a12 :: L) (x :: st) := j_astG (L := a0 :: a1 :: a2 :: a3 :: a4 :: a5 :: a6 :: a7 :: a8 :: a9 :: a10 :: a11 :: a12 :: L) o (i := 12) hd hr hn (jp_of (i := 11) rfl hp) e k
theorem j_lst12 (o : jOk g Y bg own cc lev U) {a0 a1 a2 a3 a4 a5 a6 a7 a8 a9 a10 a11 a12 b : Option Value} {x : Int64} (hd : decode cc pc = .ok (.lstore 12, 2)) (hp : jc1 a11 = true) (hn : 12 + 1 < yN Y) (e : pc + 2 = q) (k : J g Y wss u q (a0 :: a1 :: a2 :: a3 :: a4 :: a5 :: a6 :: a7 :: a8 :: a9 :: a10 :: a11 :: some (.long x) :: none :: L) st) : J g Y wss u pc (a0 :: a1 :: a2 :: a3 :: a4 :: a5 :: a6 :: a7 :: a8 :: a9 :: a10 :: a11 :: a12 :: b :: L) (.long x :: st) := j_lstG (L := a0 :: a1 :: a2 :: a3 :: a4 :: a5 :: a6 :: a7 :: a8 :: a9 :: a10 :: a11 :: a12 :: b :: L) o (i := 12) hd hn (jp_of (i := 11) rfl hp) e k
theorem j_inc12 (o : jOk g Y bg own cc lev U) {a0 a1 a2 a3 a4 a5 a6 a7 a8 a9 a10 a11 : Option Value} {x : Int32} {n : Int} (v : Int32) (hd : decode cc pc = .ok (.iinc 12 n, 3)) (hv : x + Int32.ofInt n = v) (hp : jc1 a11 = true) (e : pc + 3 = q) (k : J g Y wss u q (a0 :: a1 :: a2 :: a3 :: a4 :: a5 :: a6 :: a7 :: a8 :: a9 :: a10 :: a11 :: some (.int v) :: L) st) : J g Y wss u pc (a0 :: a1 :: a2 :: a3 :: a4 :: a5 :: a6 :: a7 :: a8 :: a9 :: a10 :: a11 :: some (.int x) :: L) st := j_incG (L := a0 :: a1 :: a2 :: a3 :: a4 :: a5 :: a6 :: a7 :: a8 :: a9 :: a10 :: a11 :: some (.int x) :: L) o (i := 12) v hd rfl hv (jp_of (i := 11) rfl hp) e k
theorem j_ist13 (o : jOk g Y bg own cc lev U) {a0 a1 a2 a3 a4 a5 a6 a7 a8 a9 a10 a11 a12 a13 : Option Value} {x : Int32} (hd : decode cc pc = .ok (.istore 13, 2)) (hp : jc1 a12 = true) (hn : 13 < yN Y) (e : pc + 2 = q) (k : J g Y wss u q (a0 :: a1 :: a2 :: a3 :: a4 :: a5 :: a6 :: a7 :: a8 :: a9 :: a10 :: a11 :: a12 :: some (.int x) :: L) st) : J g Y wss u pc (a0 :: a1 :: a2 :: a3 :: a4 :: a5 :: a6 :: a7 :: a8 :: a9 :: a10 :: a11 :: a12 :: a13 :: L) (.int x :: st) := j_istG (L := a0 :: a1 :: a2 :: a3 :: a4 :: a5 :: a6 :: a7 :: a8 :: a9 :: a10 :: a11 :: a12 :: a13 :: L) o (i := 13) hd hn (jp_of (i := 12) rfl hp) e k
theorem j_ast13 (o : jOk g Y bg own cc lev U) {a0 a1 a2 a3 a4 a5 a6 a7 a8 a9 a10 a11 a12 a13 : Option Value} {x : Value} (hd : decode cc pc = .ok (.astore 13, 2)) (hr : jrv x = true) (hp : jc1 a12 = true) (hn : 13 < yN Y) (e : pc + 2 = q) (k : J g Y wss u q (a0 :: a1 :: a2 :: a3 :: a4 :: a5 :: a6 :: a7 :: a8 :: a9 :: a10 :: a11 :: a12 :: some (x) :: L) st) : J g Y wss u pc (a0 :: a1 :: a2 :: a3 :: a4 :: a5 :: a6 :: a7 :: a8 :: a9 :: a10 :: a11 :: a12 :: a13 :: L) (x :: st) := j_astG (L := a0 :: a1 :: a2 :: a3 :: a4 :: a5 :: a6 :: a7 :: a8 :: a9 :: a10 :: a11 :: a12 :: a13 :: L) o (i := 13) hd hr hn (jp_of (i := 12) rfl hp) e k
theorem j_lst13 (o : jOk g Y bg own cc lev U) {a0 a1 a2 a3 a4 a5 a6 a7 a8 a9 a10 a11 a12 a13 b : Option Value} {x : Int64} (hd : decode cc pc = .ok (.lstore 13, 2)) (hp : jc1 a12 = true) (hn : 13 + 1 < yN Y) (e : pc + 2 = q) (k : J g Y wss u q (a0 :: a1 :: a2 :: a3 :: a4 :: a5 :: a6 :: a7 :: a8 :: a9 :: a10 :: a11 :: a12 :: some (.long x) :: none :: L) st) : J g Y wss u pc (a0 :: a1 :: a2 :: a3 :: a4 :: a5 :: a6 :: a7 :: a8 :: a9 :: a10 :: a11 :: a12 :: a13 :: b :: L) (.long x :: st) := j_lstG (L := a0 :: a1 :: a2 :: a3 :: a4 :: a5 :: a6 :: a7 :: a8 :: a9 :: a10 :: a11 :: a12 :: a13 :: b :: L) o (i := 13) hd hn (jp_of (i := 12) rfl hp) e k
theorem j_inc13 (o : jOk g Y bg own cc lev U) {a0 a1 a2 a3 a4 a5 a6 a7 a8 a9 a10 a11 a12 : Option Value} {x : Int32} {n : Int} (v : Int32) (hd : decode cc pc = .ok (.iinc 13 n, 3)) (hv : x + Int32.ofInt n = v) (hp : jc1 a12 = true) (e : pc + 3 = q) (k : J g Y wss u q (a0 :: a1 :: a2 :: a3 :: a4 :: a5 :: a6 :: a7 :: a8 :: a9 :: a10 :: a11 :: a12 :: some (.int v) :: L) st) : J g Y wss u pc (a0 :: a1 :: a2 :: a3 :: a4 :: a5 :: a6 :: a7 :: a8 :: a9 :: a10 :: a11 :: a12 :: some (.int x) :: L) st := j_incG (L := a0 :: a1 :: a2 :: a3 :: a4 :: a5 :: a6 :: a7 :: a8 :: a9 :: a10 :: a11 :: a12 :: some (.int x) :: L) o (i := 13) v hd rfl hv (jp_of (i := 12) rfl hp) e k
theorem j_iadd (o : jOk g Y bg own cc lev U) {x y : Int32} (hd : decode cc pc = .ok (.iadd, 1))  (e : pc + 1 = q) (k : J g Y wss u q L (.int (x + y) :: st)) : J g Y wss u pc L (.int y :: .int x :: st) := by
  subst e
  exact fun H locs ls hw hl => lv_iadd o.ex o.co hd  (k H locs ls hw hl)
theorem j_isub (o : jOk g Y bg own cc lev U) {x y : Int32} (hd : decode cc pc = .ok (.isub, 1))  (e : pc + 1 = q) (k : J g Y wss u q L (.int (x - y) :: st)) : J g Y wss u pc L (.int y :: .int x :: st) := by
  subst e
  exact fun H locs ls hw hl => lv_isub o.ex o.co hd  (k H locs ls hw hl)
theorem j_imul (o : jOk g Y bg own cc lev U) {x y : Int32} (hd : decode cc pc = .ok (.imul, 1))  (e : pc + 1 = q) (k : J g Y wss u q L (.int (x * y) :: st)) : J g Y wss u pc L (.int y :: .int x :: st) := by
  subst e
  exact fun H locs ls hw hl => lv_imul o.ex o.co hd  (k H locs ls hw hl)
theorem j_iand (o : jOk g Y bg own cc lev U) {x y : Int32} (hd : decode cc pc = .ok (.iand, 1))  (e : pc + 1 = q) (k : J g Y wss u q L (.int (x &&& y) :: st)) : J g Y wss u pc L (.int y :: .int x :: st) := by
  subst e
  exact fun H locs ls hw hl => lv_iand o.ex o.co hd  (k H locs ls hw hl)
theorem j_ior (o : jOk g Y bg own cc lev U) {x y : Int32} (hd : decode cc pc = .ok (.ior, 1))  (e : pc + 1 = q) (k : J g Y wss u q L (.int (x ||| y) :: st)) : J g Y wss u pc L (.int y :: .int x :: st) := by
  subst e
  exact fun H locs ls hw hl => lv_ior o.ex o.co hd  (k H locs ls hw hl)
theorem j_ixor (o : jOk g Y bg own cc lev U) {x y : Int32} (hd : decode cc pc = .ok (.ixor, 1))  (e : pc + 1 = q) (k : J g Y wss u q L (.int (x ^^^ y) :: st)) : J g Y wss u pc L (.int y :: .int x :: st) := by
  subst e
  exact fun H locs ls hw hl => lv_ixor o.ex o.co hd  (k H locs ls hw hl)
theorem j_ishl (o : jOk g Y bg own cc lev U) {x y : Int32} (hd : decode cc pc = .ok (.ishl, 1))  (e : pc + 1 = q) (k : J g Y wss u q L (.int (x <<< (y &&& 31)) :: st)) : J g Y wss u pc L (.int y :: .int x :: st) := by
  subst e
  exact fun H locs ls hw hl => lv_ishl o.ex o.co hd  (k H locs ls hw hl)
theorem j_ishr (o : jOk g Y bg own cc lev U) {x y : Int32} (hd : decode cc pc = .ok (.ishr, 1))  (e : pc + 1 = q) (k : J g Y wss u q L (.int (x >>> (y &&& 31)) :: st)) : J g Y wss u pc L (.int y :: .int x :: st) := by
  subst e
  exact fun H locs ls hw hl => lv_ishr o.ex o.co hd  (k H locs ls hw hl)
theorem j_iushr (o : jOk g Y bg own cc lev U) {x y : Int32} (hd : decode cc pc = .ok (.iushr, 1))  (e : pc + 1 = q) (k : J g Y wss u q L (.int (x.toUInt32 >>> (y.toUInt32 &&& Int32.toUInt32 31)).toInt32 :: st)) : J g Y wss u pc L (.int y :: .int x :: st) := by
  subst e
  exact fun H locs ls hw hl => lv_iushr o.ex o.co hd rfl (k H locs ls hw hl)
theorem j_ineg (o : jOk g Y bg own cc lev U) {x : Int32} (hd : decode cc pc = .ok (.ineg, 1))  (e : pc + 1 = q) (k : J g Y wss u q L (.int (-x) :: st)) : J g Y wss u pc L (.int x :: st) := by
  subst e
  exact fun H locs ls hw hl => lv_ineg o.ex o.co hd  (k H locs ls hw hl)
theorem j_idiv (o : jOk g Y bg own cc lev U) {x y : Int32} (hd : decode cc pc = .ok (.idiv, 1)) (hne : ¬ y = 0) (e : pc + 1 = q) (k : J g Y wss u q L (.int (x / y) :: st)) : J g Y wss u pc L (.int y :: .int x :: st) := by
  subst e
  exact fun H locs ls hw hl => lv_idiv o.ex o.co hd hne (k H locs ls hw hl)
theorem j_irem (o : jOk g Y bg own cc lev U) {x y : Int32} (hd : decode cc pc = .ok (.irem, 1)) (hne : ¬ y = 0) (e : pc + 1 = q) (k : J g Y wss u q L (.int (x - x / y * y) :: st)) : J g Y wss u pc L (.int y :: .int x :: st) := by
  subst e
  exact fun H locs ls hw hl => lv_irem o.ex o.co hd hne (k H locs ls hw hl)
theorem j_ladd (o : jOk g Y bg own cc lev U) {x y : Int64} (hd : decode cc pc = .ok (.ladd, 1))  (e : pc + 1 = q) (k : J g Y wss u q L (.long (x + y) :: st)) : J g Y wss u pc L (.long y :: .long x :: st) := by
  subst e
  exact fun H locs ls hw hl => lv_ladd o.ex o.co hd  (k H locs ls hw hl)
theorem j_lmul (o : jOk g Y bg own cc lev U) {x y : Int64} (hd : decode cc pc = .ok (.lmul, 1))  (e : pc + 1 = q) (k : J g Y wss u q L (.long (x * y) :: st)) : J g Y wss u pc L (.long y :: .long x :: st) := by
  subst e
  exact fun H locs ls hw hl => lv_lmul o.ex o.co hd  (k H locs ls hw hl)
theorem j_lsub (o : jOk g Y bg own cc lev U) {x y : Int64} (hd : decode cc pc = .ok (.lsub, 1))  (e : pc + 1 = q) (k : J g Y wss u q L (.long (x - y) :: st)) : J g Y wss u pc L (.long y :: .long x :: st) := by
  subst e
  exact fun H locs ls hw hl => lv_lsub o.ex o.co hd  (k H locs ls hw hl)
theorem j_i2l (o : jOk g Y bg own cc lev U) {x : Int32} (hd : decode cc pc = .ok (.i2l, 1))  (e : pc + 1 = q) (k : J g Y wss u q L (.long x.toInt64 :: st)) : J g Y wss u pc L (.int x :: st) := by
  subst e
  exact fun H locs ls hw hl => lv_i2l o.ex o.co hd rfl (k H locs ls hw hl)
theorem j_l2i (o : jOk g Y bg own cc lev U) {x : Int64} (hd : decode cc pc = .ok (.l2i, 1))  (e : pc + 1 = q) (k : J g Y wss u q L (.int x.toInt32 :: st)) : J g Y wss u pc L (.long x :: st) := by
  subst e
  exact fun H locs ls hw hl => lv_l2i o.ex o.co hd rfl (k H locs ls hw hl)
theorem j_i2b (o : jOk g Y bg own cc lev U) {x : Int32} (hd : decode cc pc = .ok (.i2b, 1))  (e : pc + 1 = q) (k : J g Y wss u q L (.int x.toInt8.toInt32 :: st)) : J g Y wss u pc L (.int x :: st) := by
  subst e
  exact fun H locs ls hw hl => lv_i2b o.ex o.co hd rfl (k H locs ls hw hl)
theorem j_i2c (o : jOk g Y bg own cc lev U) {x : Int32} (hd : decode cc pc = .ok (.i2c, 1))  (e : pc + 1 = q) (k : J g Y wss u q L (.int (x.toUInt32 % 65536).toInt32 :: st)) : J g Y wss u pc L (.int x :: st) := by
  subst e
  exact fun H locs ls hw hl => lv_i2c o.ex o.co hd rfl (k H locs ls hw hl)
theorem j_lcmp (o : jOk g Y bg own cc lev U) {x y : Int64} (hd : decode cc pc = .ok (.lcmp, 1))  (e : pc + 1 = q) (k : J g Y wss u q L (.int (lg_cmp x y) :: st)) : J g Y wss u pc L (.long y :: .long x :: st) := by
  subst e
  exact fun H locs ls hw hl => W.lcmp o.ex o.co hd  (k H locs ls hw hl)
theorem j_dup (o : jOk g Y bg own cc lev U) {a : Value} (hd : decode cc pc = .ok (.dup, 1)) (ha : a.category = 1) (e : pc + 1 = q) (k : J g Y wss u q L (a :: a :: st)) : J g Y wss u pc L (a :: st) := by
  subst e
  exact fun H locs ls hw hl => lv_dup o.ex o.co hd ha (k H locs ls hw hl)
theorem j_pop (o : jOk g Y bg own cc lev U) {a : Value} (hd : decode cc pc = .ok (.pop, 1)) (ha : a.category = 1) (e : pc + 1 = q) (k : J g Y wss u q L (st)) : J g Y wss u pc L (a :: st) := by
  subst e
  exact fun H locs ls hw hl => lv_pop o.ex o.co hd ha (k H locs ls hw hl)
theorem j_dup_x1 (o : jOk g Y bg own cc lev U) {a b : Value} (hd : decode cc pc = .ok (.dup_x1, 1)) (ha : a.category = 1) (hb : b.category = 1) (e : pc + 1 = q) (k : J g Y wss u q L (a :: b :: a :: st)) : J g Y wss u pc L (a :: b :: st) := by
  subst e
  exact fun H locs ls hw hl => lv_dup_x1 o.ex o.co hd ha hb (k H locs ls hw hl)
theorem j_dup2 (o : jOk g Y bg own cc lev U) {a b : Value} (hd : decode cc pc = .ok (.dup2, 1)) (ha : a.category = 1) (hb : b.category = 1) (e : pc + 1 = q) (k : J g Y wss u q L (a :: b :: a :: b :: st)) : J g Y wss u pc L (a :: b :: st) := by
  subst e
  exact fun H locs ls hw hl => lv_dup2_11 o.ex o.co hd ha hb (k H locs ls hw hl)
theorem j_ifeq (o : jOk g Y bg own cc lev U) {x : Int32} {off : Int} (t : Nat) (hd : decode cc pc = .ok (.ifCond .eq off, 3)) (ht : (pc : Int) + off = (t : Int)) (e : pc + 3 = q) (kt : x = 0 → J g Y wss u t L st) (kf : ¬ x = 0 → J g Y wss u q L st) : J g Y wss u pc L (.int x :: st) := by
  subst e
  exact fun H locs ls hw hl => lv_if_eq o.ex o.co hd ht (fun h => kt h H locs ls hw hl) (fun h => kf h H locs ls hw hl)
theorem j_iceq (o : jOk g Y bg own cc lev U) {x y : Int32} {off : Int} (t : Nat) (hd : decode cc pc = .ok (.if_icmp .eq off, 3)) (ht : (pc : Int) + off = (t : Int)) (e : pc + 3 = q) (kt : x = y → J g Y wss u t L st) (kf : ¬ x = y → J g Y wss u q L st) : J g Y wss u pc L (.int y :: .int x :: st) := by
  subst e
  exact fun H locs ls hw hl => lv_icmp_eq o.ex o.co hd ht (fun h => kt h H locs ls hw hl) (fun h => kf h H locs ls hw hl)
theorem j_ifeqT (o : jOk g Y bg own cc lev U) {x : Int32} {off : Int} (t : Nat) (hd : decode cc pc = .ok (.ifCond .eq off, 3)) (ht : (pc : Int) + off = (t : Int)) (h : x = 0) (k : J g Y wss u t L st) : J g Y wss u pc L (.int x :: st) := j_ifeq o t hd ht rfl (fun _ => k) (fun h2 => absurd h (by first | exact h2 | exact fun z => z h2))
theorem j_iceqT (o : jOk g Y bg own cc lev U) {x y : Int32} {off : Int} (t : Nat) (hd : decode cc pc = .ok (.if_icmp .eq off, 3)) (ht : (pc : Int) + off = (t : Int)) (h : x = y) (k : J g Y wss u t L st) : J g Y wss u pc L (.int y :: .int x :: st) := j_iceq o t hd ht rfl (fun _ => k) (fun h2 => absurd h (by first | exact h2 | exact fun z => z h2))
theorem j_ifeqF (o : jOk g Y bg own cc lev U) {x : Int32} {off : Int} {t : Nat} (hd : decode cc pc = .ok (.ifCond .eq off, 3)) (ht : (pc : Int) + off = (t : Int)) (e : pc + 3 = q) (h : ¬ x = 0) (k : J g Y wss u q L st) : J g Y wss u pc L (.int x :: st) := j_ifeq o t hd ht e (fun h2 => absurd h (by first | exact h2 | exact fun z => z h2)) (fun _ => k)
theorem j_iceqF (o : jOk g Y bg own cc lev U) {x y : Int32} {off : Int} {t : Nat} (hd : decode cc pc = .ok (.if_icmp .eq off, 3)) (ht : (pc : Int) + off = (t : Int)) (e : pc + 3 = q) (h : ¬ x = y) (k : J g Y wss u q L st) : J g Y wss u pc L (.int y :: .int x :: st) := j_iceq o t hd ht e (fun h2 => absurd h (by first | exact h2 | exact fun z => z h2)) (fun _ => k)
theorem j_ifne (o : jOk g Y bg own cc lev U) {x : Int32} {off : Int} (t : Nat) (hd : decode cc pc = .ok (.ifCond .ne off, 3)) (ht : (pc : Int) + off = (t : Int)) (e : pc + 3 = q) (kt : ¬ x = 0 → J g Y wss u t L st) (kf : x = 0 → J g Y wss u q L st) : J g Y wss u pc L (.int x :: st) := by
  subst e
  exact fun H locs ls hw hl => lv_if_ne o.ex o.co hd ht (fun h => kt h H locs ls hw hl) (fun h => kf h H locs ls hw hl)
theorem j_icne (o : jOk g Y bg own cc lev U) {x y : Int32} {off : Int} (t : Nat) (hd : decode cc pc = .ok (.if_icmp .ne off, 3)) (ht : (pc : Int) + off = (t : Int)) (e : pc + 3 = q) (kt : ¬ x = y → J g Y wss u t L st) (kf : x = y → J g Y wss u q L st) : J g Y wss u pc L (.int y :: .int x :: st) := by
  subst e
  exact fun H locs ls hw hl => lv_icmp_ne o.ex o.co hd ht (fun h => kt h H locs ls hw hl) (fun h => kf h H locs ls hw hl)
theorem j_ifneT (o : jOk g Y bg own cc lev U) {x : Int32} {off : Int} (t : Nat) (hd : decode cc pc = .ok (.ifCond .ne off, 3)) (ht : (pc : Int) + off = (t : Int)) (h : ¬ x = 0) (k : J g Y wss u t L st) : J g Y wss u pc L (.int x :: st) := j_ifne o t hd ht rfl (fun _ => k) (fun h2 => absurd h (by first | exact h2 | exact fun z => z h2))
theorem j_icneT (o : jOk g Y bg own cc lev U) {x y : Int32} {off : Int} (t : Nat) (hd : decode cc pc = .ok (.if_icmp .ne off, 3)) (ht : (pc : Int) + off = (t : Int)) (h : ¬ x = y) (k : J g Y wss u t L st) : J g Y wss u pc L (.int y :: .int x :: st) := j_icne o t hd ht rfl (fun _ => k) (fun h2 => absurd h (by first | exact h2 | exact fun z => z h2))
theorem j_ifneF (o : jOk g Y bg own cc lev U) {x : Int32} {off : Int} {t : Nat} (hd : decode cc pc = .ok (.ifCond .ne off, 3)) (ht : (pc : Int) + off = (t : Int)) (e : pc + 3 = q) (h : x = 0) (k : J g Y wss u q L st) : J g Y wss u pc L (.int x :: st) := j_ifne o t hd ht e (fun h2 => absurd h (by first | exact h2 | exact fun z => z h2)) (fun _ => k)
theorem j_icneF (o : jOk g Y bg own cc lev U) {x y : Int32} {off : Int} {t : Nat} (hd : decode cc pc = .ok (.if_icmp .ne off, 3)) (ht : (pc : Int) + off = (t : Int)) (e : pc + 3 = q) (h : x = y) (k : J g Y wss u q L st) : J g Y wss u pc L (.int y :: .int x :: st) := j_icne o t hd ht e (fun h2 => absurd h (by first | exact h2 | exact fun z => z h2)) (fun _ => k)
theorem j_iflt (o : jOk g Y bg own cc lev U) {x : Int32} {off : Int} (t : Nat) (hd : decode cc pc = .ok (.ifCond .lt off, 3)) (ht : (pc : Int) + off = (t : Int)) (e : pc + 3 = q) (kt : x < 0 → J g Y wss u t L st) (kf : ¬ x < 0 → J g Y wss u q L st) : J g Y wss u pc L (.int x :: st) := by
  subst e
  exact fun H locs ls hw hl => lv_if_lt o.ex o.co hd ht (fun h => kt h H locs ls hw hl) (fun h => kf h H locs ls hw hl)
theorem j_iclt (o : jOk g Y bg own cc lev U) {x y : Int32} {off : Int} (t : Nat) (hd : decode cc pc = .ok (.if_icmp .lt off, 3)) (ht : (pc : Int) + off = (t : Int)) (e : pc + 3 = q) (kt : x < y → J g Y wss u t L st) (kf : ¬ x < y → J g Y wss u q L st) : J g Y wss u pc L (.int y :: .int x :: st) := by
  subst e
  exact fun H locs ls hw hl => lv_icmp_lt o.ex o.co hd ht (fun h => kt h H locs ls hw hl) (fun h => kf h H locs ls hw hl)
theorem j_ifltT (o : jOk g Y bg own cc lev U) {x : Int32} {off : Int} (t : Nat) (hd : decode cc pc = .ok (.ifCond .lt off, 3)) (ht : (pc : Int) + off = (t : Int)) (h : x < 0) (k : J g Y wss u t L st) : J g Y wss u pc L (.int x :: st) := j_iflt o t hd ht rfl (fun _ => k) (fun h2 => absurd h (by first | exact h2 | exact fun z => z h2))
theorem j_icltT (o : jOk g Y bg own cc lev U) {x y : Int32} {off : Int} (t : Nat) (hd : decode cc pc = .ok (.if_icmp .lt off, 3)) (ht : (pc : Int) + off = (t : Int)) (h : x < y) (k : J g Y wss u t L st) : J g Y wss u pc L (.int y :: .int x :: st) := j_iclt o t hd ht rfl (fun _ => k) (fun h2 => absurd h (by first | exact h2 | exact fun z => z h2))
theorem j_ifltF (o : jOk g Y bg own cc lev U) {x : Int32} {off : Int} {t : Nat} (hd : decode cc pc = .ok (.ifCond .lt off, 3)) (ht : (pc : Int) + off = (t : Int)) (e : pc + 3 = q) (h : ¬ x < 0) (k : J g Y wss u q L st) : J g Y wss u pc L (.int x :: st) := j_iflt o t hd ht e (fun h2 => absurd h (by first | exact h2 | exact fun z => z h2)) (fun _ => k)
theorem j_icltF (o : jOk g Y bg own cc lev U) {x y : Int32} {off : Int} {t : Nat} (hd : decode cc pc = .ok (.if_icmp .lt off, 3)) (ht : (pc : Int) + off = (t : Int)) (e : pc + 3 = q) (h : ¬ x < y) (k : J g Y wss u q L st) : J g Y wss u pc L (.int y :: .int x :: st) := j_iclt o t hd ht e (fun h2 => absurd h (by first | exact h2 | exact fun z => z h2)) (fun _ => k)
theorem j_ifge (o : jOk g Y bg own cc lev U) {x : Int32} {off : Int} (t : Nat) (hd : decode cc pc = .ok (.ifCond .ge off, 3)) (ht : (pc : Int) + off = (t : Int)) (e : pc + 3 = q) (kt : 0 ≤ x → J g Y wss u t L st) (kf : ¬ 0 ≤ x → J g Y wss u q L st) : J g Y wss u pc L (.int x :: st) := by
  subst e
  exact fun H locs ls hw hl => lv_if_ge o.ex o.co hd ht (fun h => kt h H locs ls hw hl) (fun h => kf h H locs ls hw hl)
theorem j_icge (o : jOk g Y bg own cc lev U) {x y : Int32} {off : Int} (t : Nat) (hd : decode cc pc = .ok (.if_icmp .ge off, 3)) (ht : (pc : Int) + off = (t : Int)) (e : pc + 3 = q) (kt : y ≤ x → J g Y wss u t L st) (kf : ¬ y ≤ x → J g Y wss u q L st) : J g Y wss u pc L (.int y :: .int x :: st) := by
  subst e
  exact fun H locs ls hw hl => lv_icmp_ge o.ex o.co hd ht (fun h => kt h H locs ls hw hl) (fun h => kf h H locs ls hw hl)
theorem j_ifgeT (o : jOk g Y bg own cc lev U) {x : Int32} {off : Int} (t : Nat) (hd : decode cc pc = .ok (.ifCond .ge off, 3)) (ht : (pc : Int) + off = (t : Int)) (h : 0 ≤ x) (k : J g Y wss u t L st) : J g Y wss u pc L (.int x :: st) := j_ifge o t hd ht rfl (fun _ => k) (fun h2 => absurd h (by first | exact h2 | exact fun z => z h2))
theorem j_icgeT (o : jOk g Y bg own cc lev U) {x y : Int32} {off : Int} (t : Nat) (hd : decode cc pc = .ok (.if_icmp .ge off, 3)) (ht : (pc : Int) + off = (t : Int)) (h : y ≤ x) (k : J g Y wss u t L st) : J g Y wss u pc L (.int y :: .int x :: st) := j_icge o t hd ht rfl (fun _ => k) (fun h2 => absurd h (by first | exact h2 | exact fun z => z h2))
theorem j_ifgeF (o : jOk g Y bg own cc lev U) {x : Int32} {off : Int} {t : Nat} (hd : decode cc pc = .ok (.ifCond .ge off, 3)) (ht : (pc : Int) + off = (t : Int)) (e : pc + 3 = q) (h : ¬ 0 ≤ x) (k : J g Y wss u q L st) : J g Y wss u pc L (.int x :: st) := j_ifge o t hd ht e (fun h2 => absurd h (by first | exact h2 | exact fun z => z h2)) (fun _ => k)
theorem j_icgeF (o : jOk g Y bg own cc lev U) {x y : Int32} {off : Int} {t : Nat} (hd : decode cc pc = .ok (.if_icmp .ge off, 3)) (ht : (pc : Int) + off = (t : Int)) (e : pc + 3 = q) (h : ¬ y ≤ x) (k : J g Y wss u q L st) : J g Y wss u pc L (.int y :: .int x :: st) := j_icge o t hd ht e (fun h2 => absurd h (by first | exact h2 | exact fun z => z h2)) (fun _ => k)
theorem j_ifgt (o : jOk g Y bg own cc lev U) {x : Int32} {off : Int} (t : Nat) (hd : decode cc pc = .ok (.ifCond .gt off, 3)) (ht : (pc : Int) + off = (t : Int)) (e : pc + 3 = q) (kt : 0 < x → J g Y wss u t L st) (kf : ¬ 0 < x → J g Y wss u q L st) : J g Y wss u pc L (.int x :: st) := by
  subst e
  exact fun H locs ls hw hl => lv_if_gt o.ex o.co hd ht (fun h => kt h H locs ls hw hl) (fun h => kf h H locs ls hw hl)
theorem j_icgt (o : jOk g Y bg own cc lev U) {x y : Int32} {off : Int} (t : Nat) (hd : decode cc pc = .ok (.if_icmp .gt off, 3)) (ht : (pc : Int) + off = (t : Int)) (e : pc + 3 = q) (kt : y < x → J g Y wss u t L st) (kf : ¬ y < x → J g Y wss u q L st) : J g Y wss u pc L (.int y :: .int x :: st) := by
  subst e
  exact fun H locs ls hw hl => lv_icmp_gt o.ex o.co hd ht (fun h => kt h H locs ls hw hl) (fun h => kf h H locs ls hw hl)
theorem j_ifgtT (o : jOk g Y bg own cc lev U) {x : Int32} {off : Int} (t : Nat) (hd : decode cc pc = .ok (.ifCond .gt off, 3)) (ht : (pc : Int) + off = (t : Int)) (h : 0 < x) (k : J g Y wss u t L st) : J g Y wss u pc L (.int x :: st) := j_ifgt o t hd ht rfl (fun _ => k) (fun h2 => absurd h (by first | exact h2 | exact fun z => z h2))
theorem j_icgtT (o : jOk g Y bg own cc lev U) {x y : Int32} {off : Int} (t : Nat) (hd : decode cc pc = .ok (.if_icmp .gt off, 3)) (ht : (pc : Int) + off = (t : Int)) (h : y < x) (k : J g Y wss u t L st) : J g Y wss u pc L (.int y :: .int x :: st) := j_icgt o t hd ht rfl (fun _ => k) (fun h2 => absurd h (by first | exact h2 | exact fun z => z h2))
theorem j_ifgtF (o : jOk g Y bg own cc lev U) {x : Int32} {off : Int} {t : Nat} (hd : decode cc pc = .ok (.ifCond .gt off, 3)) (ht : (pc : Int) + off = (t : Int)) (e : pc + 3 = q) (h : ¬ 0 < x) (k : J g Y wss u q L st) : J g Y wss u pc L (.int x :: st) := j_ifgt o t hd ht e (fun h2 => absurd h (by first | exact h2 | exact fun z => z h2)) (fun _ => k)
theorem j_icgtF (o : jOk g Y bg own cc lev U) {x y : Int32} {off : Int} {t : Nat} (hd : decode cc pc = .ok (.if_icmp .gt off, 3)) (ht : (pc : Int) + off = (t : Int)) (e : pc + 3 = q) (h : ¬ y < x) (k : J g Y wss u q L st) : J g Y wss u pc L (.int y :: .int x :: st) := j_icgt o t hd ht e (fun h2 => absurd h (by first | exact h2 | exact fun z => z h2)) (fun _ => k)
theorem j_ifle (o : jOk g Y bg own cc lev U) {x : Int32} {off : Int} (t : Nat) (hd : decode cc pc = .ok (.ifCond .le off, 3)) (ht : (pc : Int) + off = (t : Int)) (e : pc + 3 = q) (kt : x ≤ 0 → J g Y wss u t L st) (kf : ¬ x ≤ 0 → J g Y wss u q L st) : J g Y wss u pc L (.int x :: st) := by
  subst e
  exact fun H locs ls hw hl => lv_if_le o.ex o.co hd ht (fun h => kt h H locs ls hw hl) (fun h => kf h H locs ls hw hl)
theorem j_icle (o : jOk g Y bg own cc lev U) {x y : Int32} {off : Int} (t : Nat) (hd : decode cc pc = .ok (.if_icmp .le off, 3)) (ht : (pc : Int) + off = (t : Int)) (e : pc + 3 = q) (kt : x ≤ y → J g Y wss u t L st) (kf : ¬ x ≤ y → J g Y wss u q L st) : J g Y wss u pc L (.int y :: .int x :: st) := by
  subst e
  exact fun H locs ls hw hl => lv_icmp_le o.ex o.co hd ht (fun h => kt h H locs ls hw hl) (fun h => kf h H locs ls hw hl)
theorem j_ifleT (o : jOk g Y bg own cc lev U) {x : Int32} {off : Int} (t : Nat) (hd : decode cc pc = .ok (.ifCond .le off, 3)) (ht : (pc : Int) + off = (t : Int)) (h : x ≤ 0) (k : J g Y wss u t L st) : J g Y wss u pc L (.int x :: st) := j_ifle o t hd ht rfl (fun _ => k) (fun h2 => absurd h (by first | exact h2 | exact fun z => z h2))
theorem j_icleT (o : jOk g Y bg own cc lev U) {x y : Int32} {off : Int} (t : Nat) (hd : decode cc pc = .ok (.if_icmp .le off, 3)) (ht : (pc : Int) + off = (t : Int)) (h : x ≤ y) (k : J g Y wss u t L st) : J g Y wss u pc L (.int y :: .int x :: st) := j_icle o t hd ht rfl (fun _ => k) (fun h2 => absurd h (by first | exact h2 | exact fun z => z h2))
theorem j_ifleF (o : jOk g Y bg own cc lev U) {x : Int32} {off : Int} {t : Nat} (hd : decode cc pc = .ok (.ifCond .le off, 3)) (ht : (pc : Int) + off = (t : Int)) (e : pc + 3 = q) (h : ¬ x ≤ 0) (k : J g Y wss u q L st) : J g Y wss u pc L (.int x :: st) := j_ifle o t hd ht e (fun h2 => absurd h (by first | exact h2 | exact fun z => z h2)) (fun _ => k)
theorem j_icleF (o : jOk g Y bg own cc lev U) {x y : Int32} {off : Int} {t : Nat} (hd : decode cc pc = .ok (.if_icmp .le off, 3)) (ht : (pc : Int) + off = (t : Int)) (e : pc + 3 = q) (h : ¬ x ≤ y) (k : J g Y wss u q L st) : J g Y wss u pc L (.int y :: .int x :: st) := j_icle o t hd ht e (fun h2 => absurd h (by first | exact h2 | exact fun z => z h2)) (fun _ => k)
theorem j_goto (o : jOk g Y bg own cc lev U) {off : Int} (t : Nat) (hd : decode cc pc = .ok (.goto off, 3)) (ht : (pc : Int) + off = (t : Int)) (k : J g Y wss u t L st) : J g Y wss u pc L st := fun H locs ls hw hl => lv_goto o.ex o.co hd ht (k H locs ls hw hl)
theorem j_ifnull (o : jOk g Y bg own cc lev U) {off : Int} {x : Nat} (hd : decode cc pc = .ok (.ifnull off, 3)) (e : pc + 3 = q) (k : J g Y wss u q L st) : J g Y wss u pc L (.ref x :: st) := by
  subst e
  exact fun H locs ls hw hl => lv_ifnull o.ex o.co hd (k H locs ls hw hl)
theorem j_ifnullN (o : jOk g Y bg own cc lev U) {off : Int} (t : Nat) (hd : decode cc pc = .ok (.ifnull off, 3)) (ht : (pc : Int) + off = (t : Int)) (k : J g Y wss u t L st) : J g Y wss u pc L (.null :: st) := fun H locs ls hw hl => lv_ifnullN o.ex o.co hd ht (k H locs ls hw hl)
theorem j_ifnn (o : jOk g Y bg own cc lev U) {off : Int} {x : Nat} (t : Nat) (hd : decode cc pc = .ok (.ifnonnull off, 3)) (ht : (pc : Int) + off = (t : Int)) (k : J g Y wss u t L st) : J g Y wss u pc L (.ref x :: st) := fun H locs ls hw hl => lv_ifnonnull o.ex o.co hd ht (k H locs ls hw hl)
theorem j_ifnnN (o : jOk g Y bg own cc lev U) {off : Int} (hd : decode cc pc = .ok (.ifnonnull off, 3)) (e : pc + 3 = q) (k : J g Y wss u q L st) : J g Y wss u pc L (.null :: st) := by
  subst e
  exact fun H locs ls hw hl => lv_ifnonnullN o.ex o.co hd (k H locs ls hw hl)
theorem j_aceq (o : jOk g Y bg own cc lev U) {rx ry : Option Nat} {off : Int} (t : Nat) (hd : decode cc pc = .ok (.if_acmp .eq off, 3)) (ht : (pc : Int) + off = (t : Int)) (e : pc + 3 = q) (kt : rx = ry → J g Y wss u t L st) (kf : ¬ rx = ry → J g Y wss u q L st) : J g Y wss u pc L (va_rf ry :: va_rf rx :: st) := by
  subst e
  exact fun H locs ls hw hl => lv_acmp_eq o.ex o.co hd ht (fun h => kt h H locs ls hw hl) (fun h => kf h H locs ls hw hl)
theorem j_acne (o : jOk g Y bg own cc lev U) {rx ry : Option Nat} {off : Int} (t : Nat) (hd : decode cc pc = .ok (.if_acmp .ne off, 3)) (ht : (pc : Int) + off = (t : Int)) (e : pc + 3 = q) (kt : ¬ rx = ry → J g Y wss u t L st) (kf : rx = ry → J g Y wss u q L st) : J g Y wss u pc L (va_rf ry :: va_rf rx :: st) := by
  subst e
  exact fun H locs ls hw hl => lv_acmp_ne o.ex o.co hd ht (fun h => kt h H locs ls hw hl) (fun h => kf h H locs ls hw hl)
theorem j_aceqT (o : jOk g Y bg own cc lev U) {rx ry : Option Nat} {off : Int} (t : Nat) (hd : decode cc pc = .ok (.if_acmp .eq off, 3)) (ht : (pc : Int) + off = (t : Int)) (h : rx = ry) (k : J g Y wss u t L st) : J g Y wss u pc L (va_rf ry :: va_rf rx :: st) := j_aceq o t hd ht rfl (fun _ => k) (fun h2 => absurd h (by first | exact h2 | exact fun z => z h2))
theorem j_aceqF (o : jOk g Y bg own cc lev U) {rx ry : Option Nat} {off : Int} {t : Nat} (hd : decode cc pc = .ok (.if_acmp .eq off, 3)) (ht : (pc : Int) + off = (t : Int)) (e : pc + 3 = q) (h : ¬ rx = ry) (k : J g Y wss u q L st) : J g Y wss u pc L (va_rf ry :: va_rf rx :: st) := j_aceq o t hd ht e (fun h2 => absurd h (by first | exact h2 | exact fun z => z h2)) (fun _ => k)
theorem j_acneT (o : jOk g Y bg own cc lev U) {rx ry : Option Nat} {off : Int} (t : Nat) (hd : decode cc pc = .ok (.if_acmp .ne off, 3)) (ht : (pc : Int) + off = (t : Int)) (h : ¬ rx = ry) (k : J g Y wss u t L st) : J g Y wss u pc L (va_rf ry :: va_rf rx :: st) := j_acne o t hd ht rfl (fun _ => k) (fun h2 => absurd h (by first | exact h2 | exact fun z => z h2))
theorem j_acneF (o : jOk g Y bg own cc lev U) {rx ry : Option Nat} {off : Int} {t : Nat} (hd : decode cc pc = .ok (.if_acmp .ne off, 3)) (ht : (pc : Int) + off = (t : Int)) (e : pc + 3 = q) (h : rx = ry) (k : J g Y wss u q L st) : J g Y wss u pc L (va_rf ry :: va_rf rx :: st) := j_acne o t hd ht e (fun h2 => absurd h (by first | exact h2 | exact fun z => z h2)) (fun _ => k)
theorem j_topi (o : jOk g Y bg own cc lev U) {x : Int32} (y : Int32) (h : x = y) (k : J g Y wss u pc L (.int y :: st)) : J g Y wss u pc L (.int x :: st) := h ▸ k
theorem j_tableIn (o : jOk g Y bg own cc lev U) {dflt lo hi off : Int} {offs : Array Int} {len : Nat} {x : Int32} (t : Nat) (hd : decode cc pc = .ok (.tableswitch dflt lo hi offs, len)) (h1 : ¬ x.toInt < lo) (h2 : ¬ hi < x.toInt) (ho : offs[(x.toInt - lo).toNat]? = some off) (ht : (pc : Int) + off = (t : Int)) (k : J g Y wss u t L st) : J g Y wss u pc L (.int x :: st) := fun H locs ls hw hl => lv_tableIn o.ex o.co hd h1 h2 ho ht (k H locs ls hw hl)
theorem j_tableOut (o : jOk g Y bg own cc lev U) {dflt lo hi : Int} {offs : Array Int} {len : Nat} {x : Int32} (t : Nat) (hd : decode cc pc = .ok (.tableswitch dflt lo hi offs, len)) (h : x.toInt < lo ∨ hi < x.toInt) (ht : (pc : Int) + dflt = (t : Int)) (k : J g Y wss u t L st) : J g Y wss u pc L (.int x :: st) := fun H locs ls hw hl => lv_tableOut o.ex o.co hd h ht (k H locs ls hw hl)
theorem j_lookup (o : jOk g Y bg own cc lev U) {dflt off : Int} {ps : Array (Int × Int)} {len : Nat} {x : Int32} (t : Nat) (hd : decode cc pc = .ok (.lookupswitch dflt ps, len)) (hp : (ps.toList.zip (ps.toList.drop 1)).all (fun (a, next) => a.1 < next.1) = true) (ho : Op.lookupswitch.offset ps.toList dflt x.toInt = off) (ht : (pc : Int) + off = (t : Int)) (k : J g Y wss u t L st) : J g Y wss u pc L (.int x :: st) := fun H locs ls hw hl => lv_lookup o.ex o.co hd hp ho ht (k H locs ls hw hl)
theorem j_kill (o : jOk g Y bg own cc lev U) (i : Nat) (k : J g Y wss u pc (L.set i none) st) : J g Y wss u pc L st := by
  intro H locs ls hw hl
  refine k H locs ls hw ⟨hl.1, hl.2.1, fun q hq => ?_⟩
  obtain ⟨j, w⟩ := q
  obtain ⟨m, h1, h2⟩ := (jlv_mem _ _ _ _).mp hq
  refine hl.2.2 _ ((jlv_mem _ _ _ _).mpr ⟨m, h1, ?_⟩)
  by_cases hi : i = m
  · subst hi
    have hlt : i < L.length := by have := (List.getElem?_eq_some_iff.mp h2).1; simpa using this
    rw [List.getElem?_set_self hlt] at h2
    cases h2
  · rwa [List.getElem?_set_ne hi] at h2
end JROWS

/-! LISTS of the JDK, first: sizes, places, reading; copies of arrays -/
set_option maxRecDepth 100000
def jElB (g : jG) (bg : va_W) (v : Nat) : Prop := (∃ e9 : va_E, (v, e9) ∈ bg ∧ jTy g (v, e9)) ∨ ∃ k, k < 256 ∧ v = jad g (10 + k)
theorem jElB.el {g : jG} {Y : jY} {bg : va_W} {wss : List va_W} {v : Nat} (h : jElB g bg v) : jEl g Y bg wss v := by
  rcases h with ⟨e9, h1, h2⟩ | h
  · exact Or.inl ⟨e9, jb h1, h2⟩
  · exact Or.inr h
theorem jElB.mono {g : jG} {S S2 : va_W} {v : Nat} (h : jElB g S v) (hs : ∀ c ∈ S, c ∈ S2) : jElB g S2 v := by
  rcases h with ⟨e9, h1, h2⟩ | h
  · exact Or.inl ⟨e9, hs _ h1, h2⟩
  · exact Or.inr h
abbrev alO (m : Int32) (b n : Nat) : va_E := eO 0 [.int m, .ref b, .int (nI n)]
/-- the list at q with the contents xs, its cells being w: m counts its changes, b is its array -/
def ALx (g : jG) (q : Nat) (m : Int32) (b : Nat) (xs : List Nat) (w : va_W) : Prop :=
  (∃ cap, w = [(q, alO m b xs.length), (b, eQ g 3 cap (fun i => xs[i]?))] ∧ xs.length ≤ cap ∧ 10 ≤ cap ∧ cap < 2 ^ 18) ∨ (xs = [] ∧ b = jad g 0 ∧ w = [(q, alO m b xs.length)])
def AL (g : jG) (q : Nat) (xs : List Nat) (w : va_W) : Prop := ∃ m b, ALx g q m b xs w
/-- the same for reading, out of a background -/
def ALr (g : jG) (S : va_W) (q : Nat) (m : Int32) (b : Nat) (xs : List Nat) : Prop :=
  (q, alO m b xs.length) ∈ S ∧ xs.length < 2 ^ 18 ∧ ((∃ cap f, (b, eQ g 3 cap f) ∈ S ∧ xs.length ≤ cap ∧ cap < 2 ^ 18 ∧ ∀ i, i < xs.length → f i = xs[i]?) ∨ (xs = [] ∧ (b = jad g 0 ∨ b = jad g 1)))
def ALR (g : jG) (S : va_W) (q : Nat) (xs : List Nat) : Prop := ∃ m b, ALr g S q m b xs
theorem ALr.mono {g : jG} {S S2 : va_W} {q : Nat} {m : Int32} {b : Nat} {xs : List Nat} (h : ALr g S q m b xs) (hs : ∀ c ∈ S, c ∈ S2) : ALr g S2 q m b xs := by
  obtain ⟨h1, h0, h2⟩ := h
  refine ⟨hs _ h1, h0, ?_⟩
  rcases h2 with ⟨cap, f, h3, h4⟩ | h2
  · exact Or.inl ⟨cap, f, hs _ h3, h4⟩
  · exact Or.inr h2
theorem ALR.mono {g : jG} {S S2 : va_W} {q : Nat} {xs : List Nat} (h : ALR g S q xs) (hs : ∀ c ∈ S, c ∈ S2) : ALR g S2 q xs := by
  obtain ⟨m, b, h⟩ := h
  exact ⟨m, b, h.mono hs⟩
theorem ALx.r {g : jG} {S : va_W} {q : Nat} {m : Int32} {b : Nat} {xs : List Nat} {w : va_W} (h : ALx g q m b xs w) (hs : ∀ c ∈ w, c ∈ S) : ALr g S q m b xs := by
  rcases h with ⟨cap, rfl, h1, h2, h3⟩ | ⟨rfl, rfl, rfl⟩
  · exact ⟨hs _ (by simp), by omega, Or.inl ⟨cap, _, hs _ (by simp), h1, h3, fun _ _ => rfl⟩⟩
  · exact ⟨hs _ (by simp), by simp, Or.inr ⟨rfl, Or.inl rfl⟩⟩
theorem AL.r {g : jG} {S : va_W} {q : Nat} {xs : List Nat} {w : va_W} (h : AL g q xs w) (hs : ∀ c ∈ w, c ∈ S) : ALR g S q xs := by
  obtain ⟨m, b, h⟩ := h
  exact ⟨m, b, h.r hs⟩
theorem ALx.head {g : jG} {q : Nat} {m : Int32} {b : Nat} {xs : List Nat} {w : va_W} (h : ALx g q m b xs w) : ∃ t, w = (q, alO m b xs.length) :: t ∧ ∀ m2, ALx g q m2 b xs ((q, alO m2 b xs.length) :: t) := by
  rcases h with ⟨cap, rfl, h1, h2, h3⟩ | ⟨rfl, rfl, rfl⟩
  · exact ⟨_, rfl, fun m2 => Or.inl ⟨cap, rfl, h1, h2, h3⟩⟩
  · exact ⟨_, rfl, fun m2 => Or.inr ⟨rfl, rfl, rfl⟩⟩
section JMM
variable {g : jG} {Y : jY} {bg : va_W} {own : String} {cc : ByteArray} {lev U : Nat} {wss : List va_W} {u pc q : Nat} {L : List (Option Value)} {st : List Value}
theorem j_mmax (o : jOk g Y bg own cc lev U) {a b index : Nat} (hd : decode cc pc = .ok (.invokestatic index, 3)) (hl : Cond.methodLink own index yJ4_max ∈ lw_all) (ha : a < 2 ^ 31) (hb : b < 2 ^ 31) (hlv : 1 ≤ lev) (hu : u ≤ U) (hst : (st.map fun v => v.category).sum ≤ 40) (e : pc + 3 = q) (k : J g Y wss u q L (.int (nI (max a b)) :: st)) : J g Y wss u pc L (.int (nI b) :: .int (nI a) :: st) := by
  subst e
  intro H locs ls hw hl2
  have h1 := o.rf
  have h2 := o.rl
  have h3 := o.rc
  have h4 := o.rs
  refine va_mmax o.ex o.co (by rw [o.ml, hl2.1]) o.ow (o.wd _ hl) (o.wd _ wdJ4_max.1) (o.wd _ wdJ4_max.2.1) (o.wd _ wdJ4_max.2.2) (by omega) (by omega) (by omega) (by omega) hd ?_
  have e : (if nI a < nI b then nI b else nI a) = nI (max a b) := by
    by_cases h : a < b
    · rw [if_pos (by rw [nI_ltI ha hb]; exact h), Nat.max_eq_right (by omega)]
    · rw [if_neg (by rw [nI_ltI ha hb]; exact h), Nat.max_eq_left (by omega)]
  rw [e]
  exact k H locs ls hw hl2
theorem j_mmin (o : jOk g Y bg own cc lev U) {a b index : Nat} (hd : decode cc pc = .ok (.invokestatic index, 3)) (hl : Cond.methodLink own index yJ4_min ∈ lw_all) (ha : a < 2 ^ 31) (hb : b < 2 ^ 31) (hlv : 1 ≤ lev) (hu : u ≤ U) (hst : (st.map fun v => v.category).sum ≤ 40) (e : pc + 3 = q) (k : J g Y wss u q L (.int (nI (min a b)) :: st)) : J g Y wss u pc L (.int (nI b) :: .int (nI a) :: st) := by
  subst e
  intro H locs ls hw hl2
  have h1 := o.rf
  have h2 := o.rl
  have h3 := o.rc
  have h4 := o.rs
  refine va_mmin o.ex o.co (by rw [o.ml, hl2.1]) o.ow (o.wd _ hl) (o.wd _ wdJ4_min.1) (o.wd _ wdJ4_min.2.1) (o.wd _ wdJ4_min.2.2) (by omega) (by omega) (by omega) (by omega) hd ?_
  have e : (if nI b < nI a then nI b else nI a) = nI (min a b) := by
    by_cases h : b < a
    · rw [if_pos (by rw [nI_ltI hb ha]; exact h), Nat.min_eq_right (by omega)]
    · rw [if_neg (by rw [nI_ltI hb ha]; exact h), Nat.min_eq_left (by omega)]
  rw [e]
  exact k H locs ls hw hl2
end JMM
theorem ctJ16_checkIndex {l : Launch} {g : jG} (hG : GS l g) (bg : va_W) {i n : Nat} (hi : i < n) (hn : n < 2 ^ 31) : KJ16_checkIndex l g 1 0 [.int (nI i), .int (nI n), .null] bg [] (fun v wd => v = some (.int (nI i)) ∧ wd = []) := by
  refine Ctr.of [some (.int (nI i)), some (.int (nI n)), some .null] hG (by decide +kernel) rfl (Nat.le_of_ble_eq_true rfl) (fun Y hl hN0 o r hI => ?_)
  subst hl
  have hN : ∀ i, i < 3 → i < yN Y := fun i h => by rw [hN0]; exact h
  refine j_ild_n o dJ16_checkIndex_0 rfl (q := 1) rfl ?_
  refine j_ifltF o (t := 9) dJ16_checkIndex_1 (by decide) (q := 4) rfl (nI_pos (by omega)) ?_
  refine j_ild_n o dJ16_checkIndex_4 rfl (q := 5) rfl ?_
  refine j_ild_n o dJ16_checkIndex_5 rfl (q := 6) rfl ?_
  refine j_icltT o 16 dJ16_checkIndex_6 (by decide) (nI_lt hi hn) ?_
  refine j_ild_n o dJ16_checkIndex_16 rfl (q := 17) rfl ?_
  exact j_ret o r dJ16_checkIndex_17 rfl [] _ rfl (⟨rfl, rfl⟩) (by omega)
theorem ctJ15_checkIndex {l : Launch} {g : jG} (hG : GS l g) (bg : va_W) {i n : Nat} (hi : i < n) (hn : n < 2 ^ 31) : KJ15_checkIndex l g 2 0 [.int (nI i), .int (nI n)] bg [] (fun v wd => v = some (.int (nI i)) ∧ wd = []) := by
  refine Ctr.of [some (.int (nI i)), some (.int (nI n))] hG (by decide +kernel) rfl (Nat.le_of_ble_eq_true rfl) (fun Y hl hN0 o r hI => ?_)
  subst hl
  have hN : ∀ i, i < 2 → i < yN Y := fun i h => by rw [hN0]; exact h
  refine j_ild_n o dJ15_checkIndex_0 rfl (q := 1) rfl ?_
  refine j_ild_n o dJ15_checkIndex_1 rfl (q := 2) rfl ?_
  refine j_null o dJ15_checkIndex_2 (q := 3) rfl ?_
  refine j_callS0 o (ctJ16_checkIndex hG _ hi hn) dJ15_checkIndex_3 q425 wdJ16_checkIndex mdJ16_checkIndex rfl (Nat.le_of_ble_eq_true rfl) (Nat.le_of_ble_eq_true rfl) (by omega) (Nat.le_of_ble_eq_true rfl) (q := 6) rfl (fun v wd hpost => ?_)
  obtain ⟨rfl, rfl⟩ := hpost
  dsimp only [List.cons_append, List.nil_append, Option.toList]
  exact j_ret o r dJ15_checkIndex_6 rfl [] _ rfl (⟨rfl, rfl⟩) (by omega)
theorem ctJ3_newLength {l : Launch} {g : jG} (hG : GS l g) (bg : va_W) {a b c : Nat} (h0 : 0 < a) (h : a + max b c < 2 ^ 20) : KJ3_newLength l g 2 0 [.int (nI a), .int (nI b), .int (nI c)] bg [] (fun v wd => v = some (.int (nI (a + max b c))) ∧ wd = []) := by
  refine Ctr.of [some (.int (nI a)), some (.int (nI b)), some (.int (nI c)), none] hG (by decide +kernel) rfl (Nat.le_of_ble_eq_true rfl) (fun Y hl hN0 o r hI => ?_)
  subst hl
  have hN : ∀ i, i < 4 → i < yN Y := fun i h => by rw [hN0]; exact h
  refine j_ild_n o dJ3_newLength_0 rfl (q := 1) rfl ?_
  refine j_ild_n o dJ3_newLength_1 rfl (q := 2) rfl ?_
  refine j_ild_n o dJ3_newLength_2 rfl (q := 3) rfl ?_
  refine j_mmax o dJ3_newLength_3 q237 (by omega) (by omega) (Nat.le_of_ble_eq_true rfl) (by omega) (Nat.le_of_ble_eq_true rfl) (q := 6) rfl ?_
  refine j_iadd o dJ3_newLength_6 (q := 7) rfl ?_
  refine j_topi o (nI (a + max b c)) (nI_add _ _) ?_
  refine j_ist3 o dJ3_newLength_7 rfl (hN 3 (Nat.le_of_ble_eq_true rfl)) (q := 8) rfl ?_
  refine j_iconst o (nI 0) dJ3_newLength_8 (by decide) (q := 9) rfl ?_
  refine j_ild_n o dJ3_newLength_9 rfl (q := 10) rfl ?_
  refine j_icgeF o (t := 21) dJ3_newLength_10 (by decide) (q := 13) rfl (by rw [nI_leI (by omega) (by omega)]; omega) ?_
  refine j_ild_n o dJ3_newLength_13 rfl (q := 14) rfl ?_
  refine j_ldc o dJ3_newLength_14 q240 (q := 16) rfl ?_
  refine j_icgtF o (t := 21) dJ3_newLength_16 (by decide) (q := 19) rfl (by rw [show (2147483639 : Int32) = nI 2147483639 from rfl, nI_ltI (by omega) (by omega)]; omega) ?_
  refine j_ild_n o dJ3_newLength_19 rfl (q := 20) rfl ?_
  exact j_ret o r dJ3_newLength_20 rfl [] _ rfl (⟨rfl, rfl⟩) (by omega)

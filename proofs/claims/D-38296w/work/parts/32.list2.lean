/-! LISTS of the JDK, second: copies of arrays, growth, adding -/
set_option maxRecDepth 100000
theorem jmr {S w : va_W} {c : Nat × va_E} (h : c ∈ S) : c ∈ w ++ S := List.mem_append_right _ h
theorem jOk.emp {g : jG} {Y : jY} {bg : va_W} {own : String} {cc : ByteArray} {lev U : Nat} (o : jOk g Y bg own cc lev U) {s0 : Nat} (h : s0 = jad g 0 ∨ s0 = jad g 1) : va_T (.object "java/lang/Object") s0 0 (fun _ => .null) (yA Y) (yS Y) (yS Y).heap := by
  obtain ⟨-, -, h1, h2, -⟩ := o.kf
  rcases h with rfl | rfl
  · exact h1
  · exact h2
theorem jOk.empLt {g : jG} {Y : jY} {bg : va_W} {own : String} {cc : ByteArray} {lev U : Nat} (o : jOk g Y bg own cc lev U) {s0 : Nat} (h : s0 = jad g 0 ∨ s0 = jad g 1) : s0 < jB g := by
  obtain ⟨-, -, -, -, -, h5, -⟩ := o.gs
  obtain ⟨-, -, h1, h2, -⟩ := h5
  rcases h with rfl | rfl
  · obtain ⟨c, h, -⟩ := h1
    exact (Array.getElem?_eq_some_iff.mp h).1
  · obtain ⟨c, h, -⟩ := h2
    exact (Array.getElem?_eq_some_iff.mp h).1
theorem cpyx {xs : List Nat} {n : Nat} (h : xs.length ≤ n) : va_cpy (fun i => xs[i]?) (fun _ => none) 0 0 n = fun i => xs[i]? := by
  funext i
  unfold va_cpy
  split
  · simp
  · rw [List.getElem?_eq_none (by omega)]
theorem cpy1 {xs : List Nat} {f : Nat → Option Nat} {n : Nat} (hn : n = xs.length) (h : ∀ i, i < xs.length → f i = xs[i]?) : va_cpy f (fun _ => none) 0 0 n = fun i => xs[i]? := by
  subst hn
  funext i
  unfold va_cpy
  split
  · simp only [Nat.zero_add, Nat.sub_zero]
    exact h i (by omega)
  · rw [List.getElem?_eq_none (by omega)]
theorem ctJ5_copyOf_2 {l : Launch} {g : jG} (hG : GS l g) (bg : va_W) {b cap N : Nat} {f : Nat → Option Nat} (hb : (b, eQ g 3 cap f) ∈ bg) (hel : ∀ i, i < min cap N → ∀ y, f i = some y → jElB g bg y) (hc : cap < 2 ^ 18) (hN9 : N < 2 ^ 18) : KJ5_copyOf_2 l g 2 (N / 12 + 1) [.ref b, .int (nI N), .ref (jad g 6)] bg [] (fun v wd => ∃ a, v = some (.ref a) ∧ jB g ≤ a ∧ wd = [[(a, eQ g 3 N (va_cpy f (fun _ => none) 0 0 (min cap N)))]]) := by
  refine Ctr.of [some (.ref b), some (.int (nI N)), some (.ref (jad g 6)), none] hG (by decide +kernel) rfl (Nat.le_of_ble_eq_true rfl) (fun Y hl hN0 o r hI => ?_)
  subst hl
  have hN : ∀ i, i < 4 → i < yN Y := fun i h => by rw [hN0]; exact h
  refine j_ald_n o dJ5_copyOf_2_0 rfl rfl (q := 1) rfl ?_
  refine j_ldcM o dJ5_copyOf_2_1 o.kr.2.2.2.2.2.2.2.2.2 q278 (q := 3) rfl ?_
  refine j_acneF (rx := some _) (ry := some _) o (t := 13) dJ5_copyOf_2_3 (by decide) (q := 6) rfl rfl ?_
  refine j_ild_n o dJ5_copyOf_2_6 rfl (q := 7) rfl ?_
  refine j_newQ o 3 (N / 12 + 1) dJ5_copyOf_2_7 q280 q279 rfl (by omega) (by omega) (by omega) (q := 10) rfl (fun a ha => ?_)
  refine j_goto o 24 dJ5_copyOf_2_10 (by decide) ?_
  refine j_ast3 o dJ5_copyOf_2_24 rfl rfl (hN 3 (Nat.le_of_ble_eq_true rfl)) (q := 25) rfl ?_
  refine j_ald_n o dJ5_copyOf_2_25 rfl rfl (q := 26) rfl ?_
  refine j_iconst o (nI 0) dJ5_copyOf_2_26 (by decide) (q := 27) rfl ?_
  refine j_ald_n o dJ5_copyOf_2_27 rfl rfl (q := 28) rfl ?_
  refine j_iconst o (nI 0) dJ5_copyOf_2_28 (by decide) (q := 29) rfl ?_
  refine j_ald_n o dJ5_copyOf_2_29 rfl rfl (q := 30) rfl ?_
  refine j_alen o dJ5_copyOf_2_30 (jb hb) rfl rfl (q := 31) rfl ?_
  refine j_ild_n o dJ5_copyOf_2_31 rfl (q := 32) rfl ?_
  refine j_mmin o dJ5_copyOf_2_32 q281 (by omega) (by omega) (Nat.le_of_ble_eq_true rfl) (by omega) (Nat.le_of_ble_eq_true rfl) (q := 35) rfl ?_
  refine j_copyQ o (Nat.le_of_ble_eq_true rfl) dJ5_copyOf_2_35 q284 0 0 rfl rfl (jb hb) (fun i hi y hy => (hel i hi y (by simpa using hy)).el) (by omega) (by omega) (by omega) (by omega) (Nat.le_of_ble_eq_true rfl) (q := 38) rfl ?_
  dsimp only [List.set]
  refine j_ald_n o dJ5_copyOf_2_38 rfl rfl (q := 39) rfl ?_
  exact j_aret o r dJ5_copyOf_2_39 (by first | exact Or.inl ⟨_, rfl⟩ | exact Or.inr ⟨_, rfl⟩) rfl [_] _ rfl (⟨a, rfl, ha, rfl⟩) (by omega)
/-- nothing of one of the two empty arrays -/
theorem ctJ5_copyOf_2e {l : Launch} {g : jG} (hG : GS l g) (bg : va_W) {s0 : Nat} (hs : s0 = jad g 0 ∨ s0 = jad g 1) : KJ5_copyOf_2 l g 2 1 [.ref s0, .int (nI 0), .ref (jad g 6)] bg [] (fun v wd => ∃ a, v = some (.ref a) ∧ jB g ≤ a ∧ wd = [[(a, eQ g 3 0 (fun _ => none))]]) := by
  refine Ctr.of [some (.ref s0), some (.int (nI 0)), some (.ref (jad g 6)), none] hG (by decide +kernel) rfl (Nat.le_of_ble_eq_true rfl) (fun Y hl hN0 o r hI => ?_)
  subst hl
  have hN : ∀ i, i < 4 → i < yN Y := fun i h => by rw [hN0]; exact h
  refine j_ald_n o dJ5_copyOf_2_0 rfl rfl (q := 1) rfl ?_
  refine j_ldcM o dJ5_copyOf_2_1 o.kr.2.2.2.2.2.2.2.2.2 q278 (q := 3) rfl ?_
  refine j_acneF (rx := some _) (ry := some _) o (t := 13) dJ5_copyOf_2_3 (by decide) (q := 6) rfl rfl ?_
  refine j_ild_n o dJ5_copyOf_2_6 rfl (q := 7) rfl ?_
  refine j_newQ o 3 1 dJ5_copyOf_2_7 q280 q279 rfl (by omega) (by omega) (by omega) (q := 10) rfl (fun a ha => ?_)
  refine j_goto o 24 dJ5_copyOf_2_10 (by decide) ?_
  refine j_ast3 o dJ5_copyOf_2_24 rfl rfl (hN 3 (Nat.le_of_ble_eq_true rfl)) (q := 25) rfl ?_
  refine j_ald_n o dJ5_copyOf_2_25 rfl rfl (q := 26) rfl ?_
  refine j_iconst o (nI 0) dJ5_copyOf_2_26 (by decide) (q := 27) rfl ?_
  refine j_ald_n o dJ5_copyOf_2_27 rfl rfl (q := 28) rfl ?_
  refine j_iconst o (nI 0) dJ5_copyOf_2_28 (by decide) (q := 29) rfl ?_
  refine j_ald_n o dJ5_copyOf_2_29 rfl rfl (q := 30) rfl ?_
  refine j_tlen o dJ5_copyOf_2_30 (o.emp hs) (q := 31) rfl ?_
  refine j_ild_n o dJ5_copyOf_2_31 rfl (q := 32) rfl ?_
  refine j_mmin o dJ5_copyOf_2_32 q281 (by omega) (by omega) (Nat.le_of_ble_eq_true rfl) (by omega) (Nat.le_of_ble_eq_true rfl) (q := 35) rfl ?_
  refine j_copyT0 o (Nat.le_of_ble_eq_true rfl) dJ5_copyOf_2_35 q284 (jw 0 0 rfl rfl) (o.emp hs) (Nat.le_of_ble_eq_true rfl) (q := 38) rfl ?_
  refine j_ald_n o dJ5_copyOf_2_38 rfl rfl (q := 39) rfl ?_
  exact j_aret o r dJ5_copyOf_2_39 (by first | exact Or.inl ⟨_, rfl⟩ | exact Or.inr ⟨_, rfl⟩) rfl [_] _ rfl (⟨a, rfl, ha, rfl⟩) (by omega)
theorem ctJ5_copyOf {l : Launch} {g : jG} (hG : GS l g) (bg : va_W) {b cap N : Nat} {f : Nat → Option Nat} (hb : (b, eQ g 3 cap f) ∈ bg) (hel : ∀ i, i < min cap N → ∀ y, f i = some y → jElB g bg y) (hc : cap < 2 ^ 18) (hN9 : N < 2 ^ 18) : KJ5_copyOf l g 3 (N / 12 + 1) [.ref b, .int (nI N)] bg [] (fun v wd => ∃ a, v = some (.ref a) ∧ jB g ≤ a ∧ wd = [[(a, eQ g 3 N (va_cpy f (fun _ => none) 0 0 (min cap N)))]]) := by
  refine Ctr.of [some (.ref b), some (.int (nI N))] hG (by decide +kernel) rfl (Nat.le_of_ble_eq_true rfl) (fun Y hl hN0 o r hI => ?_)
  subst hl
  have hN : ∀ i, i < 2 → i < yN Y := fun i h => by rw [hN0]; exact h
  refine j_ald_n o dJ5_copyOf_0 rfl rfl (q := 1) rfl ?_
  refine j_ild_n o dJ5_copyOf_1 rfl (q := 2) rfl ?_
  refine j_ald_n o dJ5_copyOf_2 rfl rfl (q := 3) rfl ?_
  refine j_getC o (Nat.le_of_ble_eq_true rfl) dJ5_copyOf_3 q247 (Or.inl ⟨_, jb hb⟩) (Nat.le_of_ble_eq_true rfl) (q := 6) rfl ?_
  refine j_callS0 o (ctJ5_copyOf_2 hG _ (jmr hb) (fun i hi y hy => (hel i hi y hy).mono (fun _ => jmr)) hc hN9) dJ5_copyOf_6 q275 wdJ5_copyOf_2 mdJ5_copyOf_2 rfl (Nat.le_of_ble_eq_true rfl) (Nat.le_of_ble_eq_true rfl) (by omega) (Nat.le_of_ble_eq_true rfl) (q := 9) rfl (fun v wd hpost => ?_)
  obtain ⟨a, rfl, ha, rfl⟩ := hpost
  dsimp only [List.cons_append, List.nil_append, Option.toList]
  exact j_aret o r dJ5_copyOf_9 (by first | exact Or.inl ⟨_, rfl⟩ | exact Or.inr ⟨_, rfl⟩) rfl [_] _ rfl (⟨a, rfl, ha, rfl⟩) (by omega)
theorem ctJ5_copyOfe {l : Launch} {g : jG} (hG : GS l g) (bg : va_W) {s0 : Nat} (hs : s0 = jad g 0 ∨ s0 = jad g 1) : KJ5_copyOf l g 3 1 [.ref s0, .int (nI 0)] bg [] (fun v wd => ∃ a, v = some (.ref a) ∧ jB g ≤ a ∧ wd = [[(a, eQ g 3 0 (fun _ => none))]]) := by
  refine Ctr.of [some (.ref s0), some (.int (nI 0))] hG (by decide +kernel) rfl (Nat.le_of_ble_eq_true rfl) (fun Y hl hN0 o r hI => ?_)
  subst hl
  have hN : ∀ i, i < 2 → i < yN Y := fun i h => by rw [hN0]; exact h
  refine j_ald_n o dJ5_copyOf_0 rfl rfl (q := 1) rfl ?_
  refine j_ild_n o dJ5_copyOf_1 rfl (q := 2) rfl ?_
  refine j_ald_n o dJ5_copyOf_2 rfl rfl (q := 3) rfl ?_
  refine j_getC o (Nat.le_of_ble_eq_true rfl) dJ5_copyOf_3 q247 (Or.inr hs) (Nat.le_of_ble_eq_true rfl) (q := 6) rfl ?_
  refine j_callS0 o (ctJ5_copyOf_2e hG _ hs) dJ5_copyOf_6 q275 wdJ5_copyOf_2 mdJ5_copyOf_2 rfl (Nat.le_of_ble_eq_true rfl) (Nat.le_of_ble_eq_true rfl) (by omega) (Nat.le_of_ble_eq_true rfl) (q := 9) rfl (fun v wd hpost => ?_)
  obtain ⟨a, rfl, ha, rfl⟩ := hpost
  dsimp only [List.cons_append, List.nil_append, Option.toList]
  exact j_aret o r dJ5_copyOf_9 (by first | exact Or.inl ⟨_, rfl⟩ | exact Or.inr ⟨_, rfl⟩) rfl [_] _ rfl (⟨a, rfl, ha, rfl⟩) (by omega)
theorem ctJ2_size {l : Launch} {g : jG} (hG : GS l g) (bg : va_W) {q b n : Nat} {m : Int32} (hq : (q, alO m b n) ∈ bg) : KJ2_size l g 1 0 [.ref q] bg [] (fun v wd => v = some (.int (nI n)) ∧ wd = []) := by
  refine Ctr.of [some (.ref q)] hG (by decide +kernel) rfl (Nat.le_of_ble_eq_true rfl) (fun Y hl hN0 o r hI => ?_)
  subst hl
  have hN : ∀ i, i < 1 → i < yN Y := fun i h => by rw [hN0]; exact h
  refine j_ald_n o dJ2_size_0 rfl rfl (q := 1) rfl ?_
  refine j_gf o dJ2_size_1 (jb hq) kcJ2 2 (Nat.le_of_ble_eq_true rfl) q150 rfl (q := 4) rfl ?_
  exact j_ret o r dJ2_size_4 rfl [] _ rfl (⟨rfl, rfl⟩) (by omega)
theorem ctJ2_isEmpty {l : Launch} {g : jG} (hG : GS l g) (bg : va_W) {q b n : Nat} {m : Int32} (hn : n < 2 ^ 31) (hq : (q, alO m b n) ∈ bg) : KJ2_isEmpty l g 1 0 [.ref q] bg [] (fun v wd => v = some (.int (nI (if n = 0 then 1 else 0))) ∧ wd = []) := by
  refine Ctr.of [some (.ref q)] hG (by decide +kernel) rfl (Nat.le_of_ble_eq_true rfl) (fun Y hl hN0 o r hI => ?_)
  subst hl
  have hN : ∀ i, i < 1 → i < yN Y := fun i h => by rw [hN0]; exact h
  refine j_ald_n o dJ2_isEmpty_0 rfl rfl (q := 1) rfl ?_
  refine j_gf o dJ2_isEmpty_1 (jb hq) kcJ2 2 (Nat.le_of_ble_eq_true rfl) q150 rfl (q := 4) rfl ?_
  refine j_ifne o 11 dJ2_isEmpty_4 (by decide) (q := 7) rfl (fun c => ?_) (fun c => ?_)
  · have h : ¬ n = 0 := fun h => c (by rw [h]; rfl)
    refine j_iconst o (nI 0) dJ2_isEmpty_11 (by decide) (q := 12) rfl ?_
    exact j_ret o r dJ2_isEmpty_12 rfl [] _ rfl (⟨by rw [if_neg h], rfl⟩) (by omega)
  · have h : n = 0 := (nI_eq hn (by omega)).mp c
    refine j_iconst o (nI 1) dJ2_isEmpty_7 (by decide) (q := 8) rfl ?_
    refine j_goto o 12 dJ2_isEmpty_8 (by decide) ?_
    exact j_ret o r dJ2_isEmpty_12 rfl [] _ rfl (⟨by rw [if_pos h], rfl⟩) (by omega)
theorem ctJ2_elementData {l : Launch} {g : jG} (hG : GS l g) (bg : va_W) {q b n cap i x : Nat} {m : Int32} {f : Nat → Option Nat} (hq : (q, alO m b n) ∈ bg) (hb : (b, eQ g 3 cap f) ∈ bg) (hi : i < cap) (hi2 : i < 2 ^ 31) (hf : f i = some x) : KJ2_elementData l g 1 0 [.ref q, .int (nI i)] bg [] (fun v wd => v = some (.ref x) ∧ wd = []) := by
  refine Ctr.of [some (.ref q), some (.int (nI i))] hG (by decide +kernel) rfl (Nat.le_of_ble_eq_true rfl) (fun Y hl hN0 o r hI => ?_)
  subst hl
  have hN : ∀ i, i < 2 → i < yN Y := fun i h => by rw [hN0]; exact h
  refine j_ald_n o dJ2_elementData_0 rfl rfl (q := 1) rfl ?_
  refine j_gf o dJ2_elementData_1 (jb hq) kcJ2 1 (Nat.le_of_ble_eq_true rfl) q147 rfl (q := 4) rfl ?_
  refine j_ild_n o dJ2_elementData_4 rfl (q := 5) rfl ?_
  refine j_aald o dJ2_elementData_5 (jb hb) rfl hi hi2 hf (q := 6) rfl ?_
  exact j_aret o r dJ2_elementData_6 (by first | exact Or.inl ⟨_, rfl⟩ | exact Or.inr ⟨_, rfl⟩) rfl [] _ rfl (⟨rfl, rfl⟩) (by omega)
theorem ctJ2_get {l : Launch} {g : jG} (hG : GS l g) (bg : va_W) {q i x : Nat} {xs : List Nat} (hq : ALR g bg q xs) (hx : xs[i]? = some x) : KJ2_get l g 3 0 [.ref q, .int (nI i)] bg [] (fun v wd => v = some (.ref x) ∧ wd = []) := by
  obtain ⟨m, b, hq, h0, h⟩ := hq
  have hi : i < xs.length := (List.getElem?_eq_some_iff.mp hx).1
  rcases h with ⟨cap, f, hb, h1, h2, h3⟩ | ⟨rfl, -⟩
  · refine Ctr.of [some (.ref q), some (.int (nI i))] hG (by decide +kernel) rfl (Nat.le_of_ble_eq_true rfl) (fun Y hl hN0 o r hI => ?_)
    subst hl
    have hN : ∀ i, i < 2 → i < yN Y := fun i h => by rw [hN0]; exact h
    refine j_ild_n o dJ2_get_0 rfl (q := 1) rfl ?_
    refine j_ald_n o dJ2_get_1 rfl rfl (q := 2) rfl ?_
    refine j_gf o dJ2_get_2 (jb hq) kcJ2 2 (Nat.le_of_ble_eq_true rfl) q150 rfl (q := 5) rfl ?_
    refine j_callS0 o (ctJ15_checkIndex hG _ hi (by omega)) dJ2_get_5 q422 wdJ15_checkIndex mdJ15_checkIndex rfl (Nat.le_of_ble_eq_true rfl) (Nat.le_of_ble_eq_true rfl) (by omega) (Nat.le_of_ble_eq_true rfl) (q := 8) rfl (fun v wd hpost => ?_)
    obtain ⟨rfl, rfl⟩ := hpost
    dsimp only [List.cons_append, List.nil_append, Option.toList]
    refine j_pop o dJ2_get_8 rfl (q := 9) rfl ?_
    refine j_ald_n o dJ2_get_9 rfl rfl (q := 10) rfl ?_
    refine j_ild_n o dJ2_get_10 rfl (q := 11) rfl ?_
    refine j_callV0 o (ctJ2_elementData hG _ (jmr hq) (jmr hb) (by omega) (by omega) (by rw [h3 i hi]; exact hx)) dJ2_get_11 q428 wdJ2_elementData mdJ2_elementData (jb hq) (by rfl) (by rfl) rfl (Nat.le_of_ble_eq_true rfl) (Nat.le_of_ble_eq_true rfl) (by omega) (Nat.le_of_ble_eq_true rfl) (q := 14) rfl (fun v wd hpost => ?_)
    obtain ⟨rfl, rfl⟩ := hpost
    dsimp only [List.cons_append, List.nil_append, Option.toList]
    exact j_aret o r dJ2_get_14 (by first | exact Or.inl ⟨_, rfl⟩ | exact Or.inr ⟨_, rfl⟩) rfl [] _ rfl (⟨rfl, rfl⟩) (by omega)
  · simp at hi

/-! LISTS of the JDK, fourth: setting, removing the last, clearing, arrays of lists, lists of lists -/
set_option maxRecDepth 100000
theorem upset {xs : List Nat} {i x : Nat} (h : i < xs.length) : va_up (fun j => xs[j]?) i (some x) = fun j => (xs.set i x)[j]? := by
  funext j
  show (if j = i then some x else xs[j]?) = (xs.set i x)[j]?
  by_cases hj : j = i
  · subst hj
    rw [if_pos rfl, List.getElem?_set_self h]
  · rw [if_neg hj, List.getElem?_set_ne (fun e => hj e.symm)]
theorem uprem {ys : List Nat} {x : Nat} : va_up (fun j => (ys ++ [x])[j]?) ys.length none = fun j => ys[j]? := by
  funext j
  show (if j = ys.length then none else (ys ++ [x])[j]?) = ys[j]?
  by_cases hj : j = ys.length
  · subst hj; simp
  · rw [if_neg hj]
    by_cases h : j < ys.length
    · rw [List.getElem?_append_left h]
    · rw [List.getElem?_eq_none (by simp; omega), List.getElem?_eq_none (by omega)]
theorem ctJ2_set {l : Launch} {g : jG} (hG : GS l g) (bg : va_W) {q i x y : Nat} {xs : List Nat} {w : va_W} (hA : AL g q xs w) (hi : xs[i]? = some y) (hx : jElB g bg x) : KJ2_set l g 3 0 [.ref q, .int (nI i), .ref x] bg [w] (fun v wd => v = some (.ref y) ∧ ∃ w2, wd = [w2] ∧ AL g q (xs.set i x) w2) := by
  obtain ⟨m, b, hA⟩ := hA
  have hl : i < xs.length := (List.getElem?_eq_some_iff.mp hi).1
  rcases hA with ⟨cap, rfl, h1, h2, h3⟩ | ⟨rfl, rfl, rfl⟩
  · refine Ctr.of [some (.ref q), some (.int (nI i)), some (.ref x), none] hG (by decide +kernel) rfl (Nat.le_of_ble_eq_true rfl) (fun Y hl hN0 o r hI => ?_)
    subst hl
    have hN : ∀ i, i < 4 → i < yN Y := fun i h => by rw [hN0]; exact h
    refine j_ild_n o dJ2_set_0 rfl (q := 1) rfl ?_
    refine j_ald_n o dJ2_set_1 rfl rfl (q := 2) rfl ?_
    refine j_gf o dJ2_set_2 (jw 0 0 rfl rfl) kcJ2 2 (Nat.le_of_ble_eq_true rfl) q150 rfl (q := 5) rfl ?_
    refine j_callS0 o (ctJ15_checkIndex hG _ hl (by omega)) dJ2_set_5 q422 wdJ15_checkIndex mdJ15_checkIndex rfl (Nat.le_of_ble_eq_true rfl) (Nat.le_of_ble_eq_true rfl) (by omega) (Nat.le_of_ble_eq_true rfl) (q := 8) rfl (fun v wd hpost => ?_)
    obtain ⟨rfl, rfl⟩ := hpost
    dsimp only [List.cons_append, List.nil_append, Option.toList]
    refine j_pop o dJ2_set_8 rfl (q := 9) rfl ?_
    refine j_ald_n o dJ2_set_9 rfl rfl (q := 10) rfl ?_
    refine j_ild_n o dJ2_set_10 rfl (q := 11) rfl ?_
    refine j_callV0 o (ctJ2_elementData hG _ (m := m) (b := b) (n := xs.length) (cap := cap) (f := fun i => xs[i]?) (x := y) (by simp) (by simp) (by omega) (by omega) hi) dJ2_set_11 q428 wdJ2_elementData mdJ2_elementData (jw 0 0 rfl rfl) (by rfl) (by rfl) rfl (Nat.le_of_ble_eq_true rfl) (Nat.le_of_ble_eq_true rfl) (by omega) (Nat.le_of_ble_eq_true rfl) (q := 14) rfl (fun v wd hpost => ?_)
    obtain ⟨rfl, rfl⟩ := hpost
    dsimp only [List.cons_append, List.nil_append, Option.toList]
    refine j_ast3 o dJ2_set_14 rfl rfl (hN 3 (Nat.le_of_ble_eq_true rfl)) (q := 15) rfl ?_
    refine j_ald_n o dJ2_set_15 rfl rfl (q := 16) rfl ?_
    refine j_gf o dJ2_set_16 (jw 0 0 rfl rfl) kcJ2 1 (Nat.le_of_ble_eq_true rfl) q147 rfl (q := 19) rfl ?_
    refine j_ild_n o dJ2_set_19 rfl (q := 20) rfl ?_
    refine j_ald_n o dJ2_set_20 rfl rfl (q := 21) rfl ?_
    refine j_aastE o dJ2_set_21 0 1 rfl rfl hx.el (by omega) (by omega) (q := 22) rfl ?_
    dsimp only [List.set]
    rw [upset hl]
    refine j_ald_n o dJ2_set_22 rfl rfl (q := 23) rfl ?_
    exact j_aret o r dJ2_set_23 (by first | exact Or.inl ⟨_, rfl⟩ | exact Or.inr ⟨_, rfl⟩) rfl [_] _ rfl (⟨rfl, _, rfl, m, b, Or.inl ⟨cap, by simp, by simpa using h1, h2, h3⟩⟩) (by omega)
  · simp at hl
theorem ctJ2_fastRemove {l : Launch} {g : jG} (hG : GS l g) (bg : va_W) {q b n cap : Nat} {m : Int32} {f : Nat → Option Nat} (h1 : n < cap) (h3 : cap < 2 ^ 18) : KJ2_fastRemove l g 2 0 [.ref q, .ref b, .int (nI n)] bg [[(q, alO m b (n + 1)), (b, eQ g 3 cap f)]] (fun v wd => v = none ∧ ∃ m2, wd = [[(q, alO m2 b n), (b, eQ g 3 cap (va_up f n none))]]) := by
  refine Ctr.of [some (.ref q), some (.ref b), some (.int (nI n)), none] hG (by decide +kernel) rfl (Nat.le_of_ble_eq_true rfl) (fun Y hl hN0 o r hI => ?_)
  subst hl
  have hN : ∀ i, i < 4 → i < yN Y := fun i h => by rw [hN0]; exact h
  refine j_ald_n o dJ2_fastRemove_0 rfl rfl (q := 1) rfl ?_
  refine j_dup o dJ2_fastRemove_1 rfl (q := 2) rfl ?_
  refine j_gfI o dJ2_fastRemove_2 (jw 0 0 rfl rfl) kcJ2 0 (Nat.le_of_ble_eq_true rfl) q154 q153 rfl (q := 5) rfl ?_
  refine j_iconst o (nI 1) dJ2_fastRemove_5 (by decide) (q := 6) rfl ?_
  refine j_iadd o dJ2_fastRemove_6 (q := 7) rfl ?_
  refine j_pfI o dJ2_fastRemove_7 0 0 rfl rfl kcJ2 0 (Nat.le_of_ble_eq_true rfl) q154 q153 rfl rfl rfl (Nat.le_of_ble_eq_true rfl) (q := 10) rfl ?_
  dsimp only [List.set]
  refine j_ald_n o dJ2_fastRemove_10 rfl rfl (q := 11) rfl ?_
  refine j_gf o dJ2_fastRemove_11 (jw 0 0 rfl rfl) kcJ2 2 (Nat.le_of_ble_eq_true rfl) q150 rfl (q := 14) rfl ?_
  refine j_iconst o (nI 1) dJ2_fastRemove_14 (by decide) (q := 15) rfl ?_
  refine j_isub o dJ2_fastRemove_15 (q := 16) rfl ?_
  refine j_topi o (nI n) (pk_sub (by omega)) ?_
  refine j_dup o dJ2_fastRemove_16 rfl (q := 17) rfl ?_
  refine j_ist3 o dJ2_fastRemove_17 rfl (hN 3 (Nat.le_of_ble_eq_true rfl)) (q := 18) rfl ?_
  refine j_ild_n o dJ2_fastRemove_18 rfl (q := 19) rfl ?_
  refine j_icleT o 34 dJ2_fastRemove_19 (by decide) (nI_le (Nat.le_refl _) (by omega)) ?_
  refine j_ald_n o dJ2_fastRemove_34 rfl rfl (q := 35) rfl ?_
  refine j_ald_n o dJ2_fastRemove_35 rfl rfl (q := 36) rfl ?_
  refine j_ild_n o dJ2_fastRemove_36 rfl (q := 37) rfl ?_
  refine j_dup_x1 o dJ2_fastRemove_37 rfl rfl (q := 38) rfl ?_
  refine j_pf o dJ2_fastRemove_38 0 0 rfl rfl kcJ2 2 (Nat.le_of_ble_eq_true rfl) q150 rfl rfl rfl (Nat.le_of_ble_eq_true rfl) (q := 41) rfl ?_
  dsimp only [List.set]
  refine j_null o dJ2_fastRemove_41 (q := 42) rfl ?_
  refine j_aastN o dJ2_fastRemove_42 0 1 rfl rfl rfl h1 (by omega) (q := 43) rfl ?_
  dsimp only [List.set]
  exact j_vret o r dJ2_fastRemove_43 [_] _ rfl (⟨rfl, _, rfl⟩) (by omega)
theorem ctJ2_remove {l : Launch} {g : jG} (hG : GS l g) (bg : va_W) {q x n : Nat} {ys : List Nat} {w : va_W} (hn : n = ys.length) (hA : AL g q (ys ++ [x]) w) : KJ2_remove l g 3 0 [.ref q, .int (nI n)] bg [w] (fun v wd => v = some (.ref x) ∧ ∃ w2, wd = [w2] ∧ AL g q ys w2) := by
  subst hn
  obtain ⟨m, b, hA⟩ := hA
  rcases hA with ⟨cap, rfl, h1, h2, h3⟩ | ⟨h, rfl, rfl⟩
  · have hl : (ys ++ [x]).length = ys.length + 1 := by simp
    rw [hl] at h1 ⊢
    refine Ctr.of [some (.ref q), some (.int (nI ys.length)), none, none] hG (by decide +kernel) rfl (Nat.le_of_ble_eq_true rfl) (fun Y hl hN0 o r hI => ?_)
    subst hl
    have hN : ∀ i, i < 4 → i < yN Y := fun i h => by rw [hN0]; exact h
    refine j_ild_n o dJ2_remove_0 rfl (q := 1) rfl ?_
    refine j_ald_n o dJ2_remove_1 rfl rfl (q := 2) rfl ?_
    refine j_gf o dJ2_remove_2 (jw 0 0 rfl rfl) kcJ2 2 (Nat.le_of_ble_eq_true rfl) q150 rfl (q := 5) rfl ?_
    refine j_callS0 o (ctJ15_checkIndex hG _ (n := ys.length + 1) (by omega) (by omega)) dJ2_remove_5 q422 wdJ15_checkIndex mdJ15_checkIndex rfl (Nat.le_of_ble_eq_true rfl) (Nat.le_of_ble_eq_true rfl) (by omega) (Nat.le_of_ble_eq_true rfl) (q := 8) rfl (fun v wd hpost => ?_)
    obtain ⟨rfl, rfl⟩ := hpost
    dsimp only [List.cons_append, List.nil_append, Option.toList]
    refine j_pop o dJ2_remove_8 rfl (q := 9) rfl ?_
    refine j_ald_n o dJ2_remove_9 rfl rfl (q := 10) rfl ?_
    refine j_gf o dJ2_remove_10 (jw 0 0 rfl rfl) kcJ2 1 (Nat.le_of_ble_eq_true rfl) q147 rfl (q := 13) rfl ?_
    refine j_ast2 o dJ2_remove_13 rfl rfl (hN 2 (Nat.le_of_ble_eq_true rfl)) (q := 14) rfl ?_
    refine j_ald_n o dJ2_remove_14 rfl rfl (q := 15) rfl ?_
    refine j_ild_n o dJ2_remove_15 rfl (q := 16) rfl ?_
    refine j_aald o dJ2_remove_16 (r := x) (jw 0 1 rfl rfl) rfl (by omega) (by omega) (by simp) (q := 17) rfl ?_
    refine j_ast3 o dJ2_remove_17 rfl rfl (hN 3 (Nat.le_of_ble_eq_true rfl)) (q := 18) rfl ?_
    refine j_ald_n o dJ2_remove_18 rfl rfl (q := 19) rfl ?_
    refine j_ald_n o dJ2_remove_19 rfl rfl (q := 20) rfl ?_
    refine j_ild_n o dJ2_remove_20 rfl (q := 21) rfl ?_
    refine j_callV1 o (ctJ2_fastRemove hG _ (by omega) h3) dJ2_remove_21 q538 wdJ2_fastRemove mdJ2_fastRemove (jw 0 0 rfl rfl) (by rfl) (by rfl) rfl (Nat.le_of_ble_eq_true rfl) (Nat.le_of_ble_eq_true rfl) (by omega) (Nat.le_of_ble_eq_true rfl) (q := 24) rfl (fun v wd hpost => ?_)
    obtain ⟨rfl, m2, rfl⟩ := hpost
    dsimp only [List.cons_append, List.nil_append, Option.toList]
    rw [uprem]
    refine j_ald_n o dJ2_remove_24 rfl rfl (q := 25) rfl ?_
    exact j_aret o r dJ2_remove_25 (by first | exact Or.inl ⟨_, rfl⟩ | exact Or.inr ⟨_, rfl⟩) rfl [_] _ rfl (⟨rfl, _, rfl, m2, b, Or.inl ⟨cap, rfl, by omega, h2, h3⟩⟩) (by omega)
  · simp at h
theorem ctJ2_clear {l : Launch} {g : jG} (hG : GS l g) (bg : va_W) {q : Nat} {xs : List Nat} {w : va_W} (hA : AL g q xs w) : KJ2_clear l g 1 0 [.ref q] bg [w] (fun v wd => v = none ∧ ∃ w2, wd = [w2] ∧ AL g q [] w2) := by
  obtain ⟨m, b, hA⟩ := hA
  rcases hA with ⟨cap, rfl, h1, h2, h3⟩ | ⟨rfl, rfl, rfl⟩
  · refine Ctr.of [some (.ref q), none, none, none] hG (by decide +kernel) rfl (Nat.le_of_ble_eq_true rfl) (fun Y hl hN0 o r hI => ?_)
    subst hl
    have hN : ∀ i, i < 4 → i < yN Y := fun i h => by rw [hN0]; exact h
    have loop : ∀ d k, k + d = xs.length → J g Y [[(q, alO (m + nI 1) b 0), (b, eQ g 3 cap (fun j => if j < k then none else xs[j]?))]] 0 27 [some (.ref q), some (.ref b), some (.int (nI xs.length)), some (.int (nI k))] [] := by
      intro d
      induction d with
      | zero =>
        intro k hk
        refine j_ild_n o dJ2_clear_27 rfl (q := 28) rfl ?_
        refine j_ild_n o dJ2_clear_28 rfl (q := 29) rfl ?_
        refine j_icgeT o 42 dJ2_clear_29 (by decide) (nI_le (by omega) (by omega)) ?_
        have e : (fun j => if j < k then none else xs[j]?) = fun j => ([] : List Nat)[j]? := by
          funext j
          split
          · simp
          · simp; omega
        rw [e]
        exact j_vret o r dJ2_clear_42 [_] _ rfl (⟨rfl, _, rfl, m + nI 1, b, Or.inl ⟨cap, rfl, by simp, h2, h3⟩⟩) (by omega)
      | succ d ih =>
        intro k hk
        refine j_ild_n o dJ2_clear_27 rfl (q := 28) rfl ?_
        refine j_ild_n o dJ2_clear_28 rfl (q := 29) rfl ?_
        refine j_icgeF o (t := 42) dJ2_clear_29 (by decide) (q := 32) rfl (nI_ge (by omega) (by omega)) ?_
        refine j_ald_n o dJ2_clear_32 rfl rfl (q := 33) rfl ?_
        refine j_ild_n o dJ2_clear_33 rfl (q := 34) rfl ?_
        refine j_null o dJ2_clear_34 (q := 35) rfl ?_
        refine j_aastN o dJ2_clear_35 0 1 rfl rfl rfl (by omega) (by omega) (q := 36) rfl ?_
        dsimp only [List.set]
        refine j_inc3 o (nI (k + 1)) dJ2_clear_36 (by first | exact nI_1 _ | exact pk_m1 _ | rfl) rfl (q := 39) rfl ?_
        refine j_goto o 27 dJ2_clear_39 (by decide) ?_
        have e : va_up (fun j => if j < k then none else xs[j]?) k none = fun j => if j < k + 1 then none else xs[j]? := by
          funext j
          show (if j = k then none else if j < k then none else xs[j]?) = _
          by_cases hj : j = k
          · rw [if_pos hj, if_pos (by omega)]
          · rw [if_neg hj]
            by_cases h : j < k
            · rw [if_pos h, if_pos (by omega)]
            · rw [if_neg h, if_neg (by omega)]
        rw [e]
        exact ih (k + 1) (by omega)
    refine j_ald_n o dJ2_clear_0 rfl rfl (q := 1) rfl ?_
    refine j_dup o dJ2_clear_1 rfl (q := 2) rfl ?_
    refine j_gfI o dJ2_clear_2 (jw 0 0 rfl rfl) kcJ2 0 (Nat.le_of_ble_eq_true rfl) q154 q153 rfl (q := 5) rfl ?_
    refine j_iconst o (nI 1) dJ2_clear_5 (by decide) (q := 6) rfl ?_
    refine j_iadd o dJ2_clear_6 (q := 7) rfl ?_
    refine j_pfI o dJ2_clear_7 0 0 rfl rfl kcJ2 0 (Nat.le_of_ble_eq_true rfl) q154 q153 rfl rfl rfl (Nat.le_of_ble_eq_true rfl) (q := 10) rfl ?_
    dsimp only [List.set]
    refine j_ald_n o dJ2_clear_10 rfl rfl (q := 11) rfl ?_
    refine j_gf o dJ2_clear_11 (jw 0 0 rfl rfl) kcJ2 1 (Nat.le_of_ble_eq_true rfl) q147 rfl (q := 14) rfl ?_
    refine j_ast1 o dJ2_clear_14 rfl rfl (hN 1 (Nat.le_of_ble_eq_true rfl)) (q := 15) rfl ?_
    refine j_ald_n o dJ2_clear_15 rfl rfl (q := 16) rfl ?_
    refine j_gf o dJ2_clear_16 (jw 0 0 rfl rfl) kcJ2 2 (Nat.le_of_ble_eq_true rfl) q150 rfl (q := 19) rfl ?_
    refine j_ist2 o dJ2_clear_19 rfl (hN 2 (Nat.le_of_ble_eq_true rfl)) (q := 20) rfl ?_
    refine j_ald_n o dJ2_clear_20 rfl rfl (q := 21) rfl ?_
    refine j_iconst o (nI 0) dJ2_clear_21 (by decide) (q := 22) rfl ?_
    refine j_dup_x1 o dJ2_clear_22 rfl rfl (q := 23) rfl ?_
    refine j_pf o dJ2_clear_23 0 0 rfl rfl kcJ2 2 (Nat.le_of_ble_eq_true rfl) q150 rfl rfl rfl (Nat.le_of_ble_eq_true rfl) (q := 26) rfl ?_
    dsimp only [List.set]
    refine j_ist3 o dJ2_clear_26 rfl (hN 3 (Nat.le_of_ble_eq_true rfl)) (q := 27) rfl ?_
    exact loop xs.length 0 (by omega)
  · refine Ctr.of [some (.ref q), none, none, none] hG (by decide +kernel) rfl (Nat.le_of_ble_eq_true rfl) (fun Y hl hN0 o r hI => ?_)
    subst hl
    have hN : ∀ i, i < 4 → i < yN Y := fun i h => by rw [hN0]; exact h
    refine j_ald_n o dJ2_clear_0 rfl rfl (q := 1) rfl ?_
    refine j_dup o dJ2_clear_1 rfl (q := 2) rfl ?_
    refine j_gfI o dJ2_clear_2 (jw 0 0 rfl rfl) kcJ2 0 (Nat.le_of_ble_eq_true rfl) q154 q153 rfl (q := 5) rfl ?_
    refine j_iconst o (nI 1) dJ2_clear_5 (by decide) (q := 6) rfl ?_
    refine j_iadd o dJ2_clear_6 (q := 7) rfl ?_
    refine j_pfI o dJ2_clear_7 0 0 rfl rfl kcJ2 0 (Nat.le_of_ble_eq_true rfl) q154 q153 rfl rfl rfl (Nat.le_of_ble_eq_true rfl) (q := 10) rfl ?_
    dsimp only [List.set]
    refine j_ald_n o dJ2_clear_10 rfl rfl (q := 11) rfl ?_
    refine j_gf o dJ2_clear_11 (jw 0 0 rfl rfl) kcJ2 1 (Nat.le_of_ble_eq_true rfl) q147 rfl (q := 14) rfl ?_
    refine j_ast1 o dJ2_clear_14 rfl rfl (hN 1 (Nat.le_of_ble_eq_true rfl)) (q := 15) rfl ?_
    refine j_ald_n o dJ2_clear_15 rfl rfl (q := 16) rfl ?_
    refine j_gf o dJ2_clear_16 (jw 0 0 rfl rfl) kcJ2 2 (Nat.le_of_ble_eq_true rfl) q150 rfl (q := 19) rfl ?_
    refine j_ist2 o dJ2_clear_19 rfl (hN 2 (Nat.le_of_ble_eq_true rfl)) (q := 20) rfl ?_
    refine j_ald_n o dJ2_clear_20 rfl rfl (q := 21) rfl ?_
    refine j_iconst o (nI 0) dJ2_clear_21 (by decide) (q := 22) rfl ?_
    refine j_dup_x1 o dJ2_clear_22 rfl rfl (q := 23) rfl ?_
    refine j_pf o dJ2_clear_23 0 0 rfl rfl kcJ2 2 (Nat.le_of_ble_eq_true rfl) q150 rfl rfl rfl (Nat.le_of_ble_eq_true rfl) (q := 26) rfl ?_
    dsimp only [List.set]
    refine j_ist3 o dJ2_clear_26 rfl (hN 3 (Nat.le_of_ble_eq_true rfl)) (q := 27) rfl ?_
    refine j_ild_n o dJ2_clear_27 rfl (q := 28) rfl ?_
    refine j_ild_n o dJ2_clear_28 rfl (q := 29) rfl ?_
    refine j_icgeT o 42 dJ2_clear_29 (by decide) (by decide) ?_
    exact j_vret o r dJ2_clear_42 [_] _ rfl (⟨rfl, _, rfl, m + nI 1, jad g 0, Or.inr ⟨rfl, rfl, rfl⟩⟩) (by omega)
theorem ctJ2_toArray {l : Launch} {g : jG} (hG : GS l g) (bg : va_W) {q : Nat} {xs : List Nat} (hq : ALR g bg q xs) (hel : ∀ x ∈ xs, jElB g bg x) : KJ2_toArray l g 4 (xs.length / 12 + 1) [.ref q] bg [] (fun v wd => ∃ a, v = some (.ref a) ∧ jB g ≤ a ∧ wd = [[(a, eQ g 3 xs.length (fun i => xs[i]?))]]) := by
  obtain ⟨m, b, hq, h0, h⟩ := hq
  rcases h with ⟨cap, f, hb, h1, h2, h3⟩ | ⟨rfl, hs⟩
  · refine Ctr.of [some (.ref q)] hG (by decide +kernel) rfl (Nat.le_of_ble_eq_true rfl) (fun Y hl hN0 o r hI => ?_)
    subst hl
    have hN : ∀ i, i < 1 → i < yN Y := fun i h => by rw [hN0]; exact h
    refine j_ald_n o dJ2_toArray_0 rfl rfl (q := 1) rfl ?_
    refine j_gf o dJ2_toArray_1 (jb hq) kcJ2 1 (Nat.le_of_ble_eq_true rfl) q147 rfl (q := 4) rfl ?_
    refine j_ald_n o dJ2_toArray_4 rfl rfl (q := 5) rfl ?_
    refine j_gf o dJ2_toArray_5 (jb hq) kcJ2 2 (Nat.le_of_ble_eq_true rfl) q150 rfl (q := 8) rfl ?_
    refine j_callS0 o (ctJ5_copyOf hG _ (jmr hb) (fun i hi y hy => (hel y (List.mem_of_getElem? (by rw [← h3 i (by omega)]; exact hy))).mono (fun _ => jmr)) h2 h0) dJ2_toArray_8 q244 wdJ5_copyOf mdJ5_copyOf rfl (Nat.le_of_ble_eq_true rfl) (Nat.le_of_ble_eq_true rfl) (by omega) (Nat.le_of_ble_eq_true rfl) (q := 11) rfl (fun v wd hpost => ?_)
    obtain ⟨a, rfl, ha, rfl⟩ := hpost
    dsimp only [List.cons_append, List.nil_append, Option.toList]
    rw [cpy1 (by omega) h3]
    exact j_aret o r dJ2_toArray_11 (by first | exact Or.inl ⟨_, rfl⟩ | exact Or.inr ⟨_, rfl⟩) rfl [_] _ rfl (⟨a, rfl, ha, rfl⟩) (by omega)
  · refine Ctr.of [some (.ref q)] hG (by decide +kernel) rfl (Nat.le_of_ble_eq_true rfl) (fun Y hl hN0 o r hI => ?_)
    subst hl
    have hN : ∀ i, i < 1 → i < yN Y := fun i h => by rw [hN0]; exact h
    refine j_ald_n o dJ2_toArray_0 rfl rfl (q := 1) rfl ?_
    refine j_gf o dJ2_toArray_1 (jb hq) kcJ2 1 (Nat.le_of_ble_eq_true rfl) q147 rfl (q := 4) rfl ?_
    refine j_ald_n o dJ2_toArray_4 rfl rfl (q := 5) rfl ?_
    refine j_gf o dJ2_toArray_5 (jb hq) kcJ2 2 (Nat.le_of_ble_eq_true rfl) q150 rfl (q := 8) rfl ?_
    refine j_callS0 o (ctJ5_copyOfe hG _ hs) dJ2_toArray_8 q244 wdJ5_copyOf mdJ5_copyOf rfl (Nat.le_of_ble_eq_true rfl) (Nat.le_of_ble_eq_true rfl) (by decide) (Nat.le_of_ble_eq_true rfl) (q := 11) rfl (fun v wd hpost => ?_)
    obtain ⟨a, rfl, ha, rfl⟩ := hpost
    dsimp only [List.cons_append, List.nil_append, Option.toList]
    exact j_aret o r dJ2_toArray_11 (by first | exact Or.inl ⟨_, rfl⟩ | exact Or.inr ⟨_, rfl⟩) rfl [_] _ rfl (⟨a, rfl, ha, by simp⟩) (by decide)
def uAll (n k : Nat) : Nat := if k = 0 then 1 else k / 12 + 1 + (if n = 0 then max 10 (k + k / 2) / 12 + 1 else if n + k ≤ 10 then 0 else (n + k + (n + k) / 2) / 12 + 1)
theorem uAll_0 (n k : Nat) : k / 12 + 1 ≤ uAll n k := by
  unfold uAll
  split <;> omega
theorem uAll_g {n k cap : Nat} (hk : k ≠ 0) (h0 : 10 ≤ cap) (h1 : cap < n + k) : k / 12 + 1 + (gcap cap (n + k) / 12 + 1) ≤ uAll n k := by
  unfold uAll gcap
  rw [if_neg hk]
  split
  · omega
  · rw [if_neg (by omega)]
    omega
theorem uAll_e {k : Nat} (hk : k ≠ 0) : k / 12 + 1 + (max 10 k / 12 + 1) ≤ uAll 0 k := by
  unfold uAll
  rw [if_neg hk, if_pos rfl]
  omega
theorem cpyapp {xs ys : List Nat} {n k : Nat} (hn : n = xs.length) (hk : k = ys.length) : va_cpy (fun i => ys[i]?) (fun i => xs[i]?) 0 n k = fun i => (xs ++ ys)[i]? := by
  subst hn
  subst hk
  funext i
  show (if xs.length ≤ i ∧ i < xs.length + ys.length then ys[0 + (i - xs.length)]? else xs[i]?) = _
  by_cases h : xs.length ≤ i
  · rw [List.getElem?_append_right h]
    by_cases h2 : i < xs.length + ys.length
    · rw [if_pos ⟨h, h2⟩, Nat.zero_add]
    · rw [if_neg (by omega), List.getElem?_eq_none h, List.getElem?_eq_none (by omega)]
  · rw [if_neg (by omega), List.getElem?_append_left (by omega)]
theorem jElB_l {g : jG} {bg w : va_W} {xs : List Nat} (h : ∀ x ∈ xs, jElB g bg x) : ∀ x ∈ xs, jElB g (w ++ bg) x := fun x hx => (h x hx).mono (fun _ => jmr)
theorem ctJ2_addAll {l : Launch} {g : jG} (hG : GS l g) (bg : va_W) {q c : Nat} {xs ys : List Nat} {w : va_W} (hA : AL g q xs w) (hc : ALR g bg c ys) (hx : ∀ x ∈ xs, jElB g bg x) (hy : ∀ y ∈ ys, jElB g bg y) (hl : xs.length + ys.length < 2 ^ 16) : KJ2_addAll l g 5 (uAll xs.length ys.length) [.ref q, .ref c] bg [w] (fun v wd => (∃ z, v = some (.int z)) ∧ ∃ w2, wd = [w2] ∧ AL g q (xs ++ ys) w2) := by
  obtain ⟨m, b, hA⟩ := hA
  obtain ⟨m0, b0, hc0, hc1⟩ := hc
  have hcR : ALR g bg c ys := ⟨m0, b0, hc0, hc1⟩
  rcases hA with ⟨cap, rfl, h1, h2, h3⟩ | ⟨rfl, rfl, rfl⟩
  · refine Ctr.of [some (.ref q), some (.ref c), none, none, none, none] hG (by decide +kernel) rfl (Nat.le_of_ble_eq_true rfl) (fun Y hl hN0 o r hI => ?_)
    subst hl
    have hN : ∀ i, i < 6 → i < yN Y := fun i h => by rw [hN0]; exact h
    have hU := uAll_0 xs.length ys.length
    refine j_ald_n o dJ2_addAll_0 rfl rfl (q := 1) rfl ?_
    refine j_callF0 o (ctJ2_toArray hG _ (hcR.mono (fun _ => jmr)) (jElB_l hy)) dJ2_addAll_1 q572 wfJ2_toArray (by decide +kernel) (jb hc0) (by rfl) (by rfl) rfl (Nat.le_of_ble_eq_true rfl) (Nat.le_of_ble_eq_true rfl) (by omega) (Nat.le_of_ble_eq_true rfl) (q := 6) rfl (fun v wd hpost => ?_)
    obtain ⟨a, rfl, ha, rfl⟩ := hpost
    dsimp only [List.cons_append, List.nil_append, Option.toList]
    refine j_ast2 o dJ2_addAll_6 rfl rfl (hN 2 (Nat.le_of_ble_eq_true rfl)) (q := 7) rfl ?_
    refine j_ald_n o dJ2_addAll_7 rfl rfl (q := 8) rfl ?_
    refine j_dup o dJ2_addAll_8 rfl (q := 9) rfl ?_
    refine j_gfI o dJ2_addAll_9 (jw 1 0 rfl rfl) kcJ2 0 (Nat.le_of_ble_eq_true rfl) q154 q153 rfl (q := 12) rfl ?_
    refine j_iconst o (nI 1) dJ2_addAll_12 (by decide) (q := 13) rfl ?_
    refine j_iadd o dJ2_addAll_13 (q := 14) rfl ?_
    refine j_pfI o dJ2_addAll_14 1 0 rfl rfl kcJ2 0 (Nat.le_of_ble_eq_true rfl) q154 q153 rfl rfl rfl (Nat.le_of_ble_eq_true rfl) (q := 17) rfl ?_
    dsimp only [List.set]
    refine j_ald_n o dJ2_addAll_17 rfl rfl (q := 18) rfl ?_
    refine j_alen o dJ2_addAll_18 (jw 0 0 rfl rfl) rfl rfl (q := 19) rfl ?_
    refine j_ist3 o dJ2_addAll_19 rfl (hN 3 (Nat.le_of_ble_eq_true rfl)) (q := 20) rfl ?_
    refine j_ild_n o dJ2_addAll_20 rfl (q := 21) rfl ?_
    refine j_ifne o 26 dJ2_addAll_21 (by decide) (q := 24) rfl (fun hk => ?_) (fun hk => ?_)
    · have hk : ys.length ≠ 0 := fun h => hk (by rw [h]; rfl)
      refine j_ild_n o dJ2_addAll_26 rfl (q := 27) rfl ?_
      refine j_ald_n o dJ2_addAll_27 rfl rfl (q := 28) rfl ?_
      refine j_gf o dJ2_addAll_28 (jw 1 0 rfl rfl) kcJ2 1 (Nat.le_of_ble_eq_true rfl) q147 rfl (q := 31) rfl ?_
      refine j_dup o dJ2_addAll_31 rfl (q := 32) rfl ?_
      refine j_ast4 o dJ2_addAll_32 rfl rfl (hN 4 (Nat.le_of_ble_eq_true rfl)) (q := 34) rfl ?_
      refine j_alen o dJ2_addAll_34 (jw 1 1 rfl rfl) rfl rfl (q := 35) rfl ?_
      refine j_ald_n o dJ2_addAll_35 rfl rfl (q := 36) rfl ?_
      refine j_gf o dJ2_addAll_36 (jw 1 0 rfl rfl) kcJ2 2 (Nat.le_of_ble_eq_true rfl) q150 rfl (q := 39) rfl ?_
      refine j_dup o dJ2_addAll_39 rfl (q := 40) rfl ?_
      refine j_ist5 o dJ2_addAll_40 rfl (hN 5 (Nat.le_of_ble_eq_true rfl)) (q := 42) rfl ?_
      refine j_isub o dJ2_addAll_42 (q := 43) rfl ?_
      refine j_topi o (nI (cap - xs.length)) (pk_sub (by omega)) ?_
      refine j_icle o 56 dJ2_addAll_43 (by decide) (q := 46) rfl (fun hc2 => ?_) (fun hc2 => ?_)
      · rw [nI_leI (by omega) (by omega)] at hc2
        refine j_ald_n o dJ2_addAll_56 rfl rfl (q := 57) rfl ?_
        refine j_iconst o (nI 0) dJ2_addAll_57 (by decide) (q := 58) rfl ?_
        refine j_ald o dJ2_addAll_58 rfl rfl (q := 60) rfl ?_
        refine j_ild o dJ2_addAll_60 rfl (q := 62) rfl ?_
        refine j_ild_n o dJ2_addAll_62 rfl (q := 63) rfl ?_
        refine j_copyQ o (Nat.le_of_ble_eq_true rfl) dJ2_addAll_63 q542 1 1 rfl rfl (jw 0 0 rfl rfl) (fun i hi y hy2 => (hy y (List.mem_of_getElem? hy2)).el) (by omega) (by omega) (by omega) (by omega) (Nat.le_of_ble_eq_true rfl) (q := 66) rfl ?_
        dsimp only [List.set]
        rw [cpyapp rfl rfl]
        refine j_ald_n o dJ2_addAll_66 rfl rfl (q := 67) rfl ?_
        refine j_ild o dJ2_addAll_67 rfl (q := 69) rfl ?_
        refine j_ild_n o dJ2_addAll_69 rfl (q := 70) rfl ?_
        refine j_iadd o dJ2_addAll_70 (q := 71) rfl ?_
        refine j_topi o (nI (xs.length + ys.length)) (nI_add _ _) ?_
        refine j_pf o dJ2_addAll_71 1 0 rfl rfl kcJ2 2 (Nat.le_of_ble_eq_true rfl) q150 rfl rfl rfl (Nat.le_of_ble_eq_true rfl) (q := 74) rfl ?_
        dsimp only [List.set]
        refine j_iconst o (nI 1) dJ2_addAll_74 (by decide) (q := 75) rfl ?_
        refine j_mv1 ?_
        exact j_ret o r dJ2_addAll_75 rfl [_] _ rfl (⟨⟨_, rfl⟩, _, rfl, m + nI 1, b, Or.inl ⟨cap, by simp, by simp; omega, h2, h3⟩⟩) (by omega)
      · rw [nI_leI (by omega) (by omega)] at hc2
        have hg := uAll_g (n := xs.length) hk h2 (by omega)
        refine j_ald_n o dJ2_addAll_46 rfl rfl (q := 47) rfl ?_
        refine j_ild o dJ2_addAll_47 rfl (q := 49) rfl ?_
        refine j_ild_n o dJ2_addAll_49 rfl (q := 50) rfl ?_
        refine j_iadd o dJ2_addAll_50 (q := 51) rfl ?_
        refine j_topi o (nI (xs.length + ys.length)) (nI_add _ _) ?_
        refine j_mv1 ?_
        refine j_callV1 o (ctJ2_grow_2 hG _ (jElB_l hx) h1 h2 (mn := xs.length + ys.length) (by omega) (by omega)) dJ2_addAll_51 q230 wdJ2_grow_2 mdJ2_grow_2 (jw 0 0 rfl rfl) (by rfl) (by rfl) rfl (Nat.le_of_ble_eq_true rfl) (Nat.le_of_ble_eq_true rfl) (by omega) (Nat.le_of_ble_eq_true rfl) (q := 54) rfl (fun v wd hpost => ?_)
        obtain ⟨a2, rfl, ha2, rfl⟩ := hpost
        dsimp only [List.cons_append, List.nil_append, Option.toList]
        have hg2 : xs.length + ys.length ≤ gcap cap (xs.length + ys.length) := by unfold gcap; omega
        have hg3 : gcap cap (xs.length + ys.length) < 2 ^ 18 := by unfold gcap; omega
        refine j_ast4 o dJ2_addAll_54 rfl rfl (hN 4 (Nat.le_of_ble_eq_true rfl)) (q := 56) rfl ?_
        refine j_ald_n o dJ2_addAll_56 rfl rfl (q := 57) rfl ?_
        refine j_iconst o (nI 0) dJ2_addAll_57 (by decide) (q := 58) rfl ?_
        refine j_ald o dJ2_addAll_58 rfl rfl (q := 60) rfl ?_
        refine j_ild o dJ2_addAll_60 rfl (q := 62) rfl ?_
        refine j_ild_n o dJ2_addAll_62 rfl (q := 63) rfl ?_
        refine j_copyQ o (Nat.le_of_ble_eq_true rfl) dJ2_addAll_63 q542 0 1 rfl rfl (jw 1 0 rfl rfl) (fun i hi y hy2 => (hy y (List.mem_of_getElem? hy2)).el) (by omega) (by omega) (by omega) (by omega) (Nat.le_of_ble_eq_true rfl) (q := 66) rfl ?_
        dsimp only [List.set]
        rw [cpyapp rfl rfl]
        refine j_ald_n o dJ2_addAll_66 rfl rfl (q := 67) rfl ?_
        refine j_ild o dJ2_addAll_67 rfl (q := 69) rfl ?_
        refine j_ild_n o dJ2_addAll_69 rfl (q := 70) rfl ?_
        refine j_iadd o dJ2_addAll_70 (q := 71) rfl ?_
        refine j_topi o (nI (xs.length + ys.length)) (nI_add _ _) ?_
        refine j_pf o dJ2_addAll_71 0 0 rfl rfl kcJ2 2 (Nat.le_of_ble_eq_true rfl) q150 rfl rfl rfl (Nat.le_of_ble_eq_true rfl) (q := 74) rfl ?_
        dsimp only [List.set]
        refine j_iconst o (nI 1) dJ2_addAll_74 (by decide) (q := 75) rfl ?_
        exact j_ret o r dJ2_addAll_75 rfl [_] _ rfl (⟨⟨_, rfl⟩, _, rfl, m + nI 1, a2, Or.inl ⟨gcap cap (xs.length + ys.length), by simp, by simp; omega, by omega, hg3⟩⟩) (by omega)
    · have hk : ys.length = 0 := (nI_eq (by omega) (by omega)).mp hk
      have hys : ys = [] := List.length_eq_zero_iff.mp hk
      subst hys
      refine j_iconst o (nI 0) dJ2_addAll_24 (by decide) (q := 25) rfl ?_
      refine j_mv1 ?_
      exact j_ret o r dJ2_addAll_25 rfl [_] _ rfl (⟨⟨_, rfl⟩, _, rfl, m + nI 1, b, Or.inl ⟨cap, by simp, by simpa using h1, h2, h3⟩⟩) (by omega)
  · refine Ctr.of [some (.ref q), some (.ref c), none, none, none, none] hG (by decide +kernel) rfl (Nat.le_of_ble_eq_true rfl) (fun Y hl hN0 o r hI => ?_)
    subst hl
    have hN : ∀ i, i < 6 → i < yN Y := fun i h => by rw [hN0]; exact h
    have hU := uAll_0 0 ys.length
    refine j_ald_n o dJ2_addAll_0 rfl rfl (q := 1) rfl ?_
    refine j_callF0 o (ctJ2_toArray hG _ (hcR.mono (fun _ => jmr)) (jElB_l hy)) dJ2_addAll_1 q572 wfJ2_toArray (by decide +kernel) (jb hc0) (by rfl) (by rfl) rfl (Nat.le_of_ble_eq_true rfl) (Nat.le_of_ble_eq_true rfl) (by simp only [List.length_nil]; omega) (Nat.le_of_ble_eq_true rfl) (q := 6) rfl (fun v wd hpost => ?_)
    obtain ⟨a, rfl, ha, rfl⟩ := hpost
    dsimp only [List.cons_append, List.nil_append, Option.toList]
    refine j_ast2 o dJ2_addAll_6 rfl rfl (hN 2 (Nat.le_of_ble_eq_true rfl)) (q := 7) rfl ?_
    refine j_ald_n o dJ2_addAll_7 rfl rfl (q := 8) rfl ?_
    refine j_dup o dJ2_addAll_8 rfl (q := 9) rfl ?_
    refine j_gfI o dJ2_addAll_9 (jw 1 0 rfl rfl) kcJ2 0 (Nat.le_of_ble_eq_true rfl) q154 q153 rfl (q := 12) rfl ?_
    refine j_iconst o (nI 1) dJ2_addAll_12 (by decide) (q := 13) rfl ?_
    refine j_iadd o dJ2_addAll_13 (q := 14) rfl ?_
    refine j_pfI o dJ2_addAll_14 1 0 rfl rfl kcJ2 0 (Nat.le_of_ble_eq_true rfl) q154 q153 rfl rfl rfl (Nat.le_of_ble_eq_true rfl) (q := 17) rfl ?_
    dsimp only [List.set]
    refine j_ald_n o dJ2_addAll_17 rfl rfl (q := 18) rfl ?_
    refine j_alen o dJ2_addAll_18 (jw 0 0 rfl rfl) rfl rfl (q := 19) rfl ?_
    refine j_ist3 o dJ2_addAll_19 rfl (hN 3 (Nat.le_of_ble_eq_true rfl)) (q := 20) rfl ?_
    refine j_ild_n o dJ2_addAll_20 rfl (q := 21) rfl ?_
    simp only [List.length_nil, Nat.zero_add] at *
    refine j_ifne o 26 dJ2_addAll_21 (by decide) (q := 24) rfl (fun hk => ?_) (fun hk => ?_)
    · have hk : ys.length ≠ 0 := fun h => hk (by rw [h]; rfl)
      have hg := uAll_e hk
      refine j_ild_n o dJ2_addAll_26 rfl (q := 27) rfl ?_
      refine j_ald_n o dJ2_addAll_27 rfl rfl (q := 28) rfl ?_
      refine j_gf o dJ2_addAll_28 (jw 1 0 rfl rfl) kcJ2 1 (Nat.le_of_ble_eq_true rfl) q147 rfl (q := 31) rfl ?_
      refine j_dup o dJ2_addAll_31 rfl (q := 32) rfl ?_
      refine j_ast4 o dJ2_addAll_32 rfl rfl (hN 4 (Nat.le_of_ble_eq_true rfl)) (q := 34) rfl ?_
      refine j_tlen o dJ2_addAll_34 (o.emp (Or.inl rfl)) (q := 35) rfl ?_
      refine j_ald_n o dJ2_addAll_35 rfl rfl (q := 36) rfl ?_
      refine j_gf o dJ2_addAll_36 (jw 1 0 rfl rfl) kcJ2 2 (Nat.le_of_ble_eq_true rfl) q150 rfl (q := 39) rfl ?_
      refine j_dup o dJ2_addAll_39 rfl (q := 40) rfl ?_
      refine j_ist5 o dJ2_addAll_40 rfl (hN 5 (Nat.le_of_ble_eq_true rfl)) (q := 42) rfl ?_
      refine j_isub o dJ2_addAll_42 (q := 43) rfl ?_
      refine j_topi o (nI 0) (rfl) ?_
      refine j_icleF o (t := 56) dJ2_addAll_43 (by decide) (q := 46) rfl (by rw [nI_leI (by omega) (by omega)]; omega) ?_
      refine j_ald_n o dJ2_addAll_46 rfl rfl (q := 47) rfl ?_
      refine j_ild o dJ2_addAll_47 rfl (q := 49) rfl ?_
      refine j_ild_n o dJ2_addAll_49 rfl (q := 50) rfl ?_
      refine j_iadd o dJ2_addAll_50 (q := 51) rfl ?_
      refine j_topi o (nI ys.length) (by rw [nI_add, Nat.zero_add]) ?_
      refine j_mv1 ?_
      refine j_callV1 o (ctJ2_grow_2e hG _ (by omega)) dJ2_addAll_51 q230 wdJ2_grow_2 mdJ2_grow_2 (jw 0 0 rfl rfl) (by rfl) (by rfl) rfl (Nat.le_of_ble_eq_true rfl) (Nat.le_of_ble_eq_true rfl) (by omega) (Nat.le_of_ble_eq_true rfl) (q := 54) rfl (fun v wd hpost => ?_)
      obtain ⟨a2, rfl, ha2, rfl⟩ := hpost
      dsimp only [List.cons_append, List.nil_append, Option.toList]
      refine j_ast4 o dJ2_addAll_54 rfl rfl (hN 4 (Nat.le_of_ble_eq_true rfl)) (q := 56) rfl ?_
      refine j_ald_n o dJ2_addAll_56 rfl rfl (q := 57) rfl ?_
      refine j_iconst o (nI 0) dJ2_addAll_57 (by decide) (q := 58) rfl ?_
      refine j_ald o dJ2_addAll_58 rfl rfl (q := 60) rfl ?_
      refine j_ild o dJ2_addAll_60 rfl (q := 62) rfl ?_
      refine j_ild_n o dJ2_addAll_62 rfl (q := 63) rfl ?_
      refine j_copyQ o (Nat.le_of_ble_eq_true rfl) dJ2_addAll_63 q542 0 1 rfl rfl (jw 1 0 rfl rfl) (fun i hi y hy2 => (hy y (List.mem_of_getElem? hy2)).el) (by omega) (by omega) (by omega) (by omega) (Nat.le_of_ble_eq_true rfl) (q := 66) rfl ?_
      dsimp only [List.set]
      rw [cpy1 rfl (fun _ _ => rfl)]
      refine j_ald_n o dJ2_addAll_66 rfl rfl (q := 67) rfl ?_
      refine j_ild o dJ2_addAll_67 rfl (q := 69) rfl ?_
      refine j_ild_n o dJ2_addAll_69 rfl (q := 70) rfl ?_
      refine j_iadd o dJ2_addAll_70 (q := 71) rfl ?_
      refine j_topi o (nI ys.length) (by rw [nI_add, Nat.zero_add]) ?_
      refine j_pf o dJ2_addAll_71 0 0 rfl rfl kcJ2 2 (Nat.le_of_ble_eq_true rfl) q150 rfl rfl rfl (Nat.le_of_ble_eq_true rfl) (q := 74) rfl ?_
      dsimp only [List.set]
      refine j_iconst o (nI 1) dJ2_addAll_74 (by decide) (q := 75) rfl ?_
      exact j_ret o r dJ2_addAll_75 rfl [_] _ rfl (⟨⟨_, rfl⟩, _, rfl, m + nI 1, a2, Or.inl ⟨max 10 ys.length, by simp, by simp; omega, by omega, by omega⟩⟩) (by omega)
    · have hk : ys.length = 0 := (nI_eq (by omega) (by omega)).mp hk
      have hys : ys = [] := List.length_eq_zero_iff.mp hk
      subst hys
      refine j_iconst o (nI 0) dJ2_addAll_24 (by decide) (q := 25) rfl ?_
      refine j_mv1 ?_
      exact j_ret o r dJ2_addAll_25 rfl [_] _ rfl (⟨⟨_, rfl⟩, _, rfl, m + nI 1, jad g 0, Or.inr ⟨by simp, rfl, rfl⟩⟩) (by omega)
theorem ctJ0_init {l : Launch} {g : jG} (hG : GS l g) (bg : va_W) (q : Nat) : KJ0_init l g 1 0 [.ref q] bg [] (fun v wd => v = none ∧ wd = []) := by
  refine Ctr.of [some (.ref q)] hG (by decide +kernel) rfl (Nat.le_of_ble_eq_true rfl) (fun Y hl hN0 o r hI => ?_)
  subst hl
  have hN : ∀ i, i < 1 → i < yN Y := fun i h => by rw [hN0]; exact h
  refine j_ald_n o dJ0_init_0 rfl rfl (q := 1) rfl ?_
  refine j_obj o (Nat.le_of_ble_eq_true rfl) dJ0_init_1 q144 q110 q111 (Nat.le_of_ble_eq_true rfl) (q := 4) rfl ?_
  exact j_vret o r dJ0_init_4 [] _ rfl (⟨rfl, rfl⟩) (by omega)
theorem ctJ1_init {l : Launch} {g : jG} (hG : GS l g) (bg : va_W) (q : Nat) {m : Int32} {a b : Value} : KJ1_init l g 2 0 [.ref q] bg [[(q, eO 0 [.int m, a, b])]] (fun v wd => v = none ∧ wd = [[(q, eO 0 [.int (nI 0), a, b])]]) := by
  refine Ctr.of [some (.ref q)] hG (by decide +kernel) rfl (Nat.le_of_ble_eq_true rfl) (fun Y hl hN0 o r hI => ?_)
  subst hl
  have hN : ∀ i, i < 1 → i < yN Y := fun i h => by rw [hN0]; exact h
  refine j_ald_n o dJ1_init_0 rfl rfl (q := 1) rfl ?_
  refine j_callI0 o (ctJ0_init hG _ q) dJ1_init_1 q141 wdJ0_init mdJ0_init rfl rfl (Nat.le_of_ble_eq_true rfl) (Nat.le_of_ble_eq_true rfl) (by omega) (Nat.le_of_ble_eq_true rfl) (q := 4) rfl (fun v wd hpost => ?_)
  obtain ⟨rfl, rfl⟩ := hpost
  dsimp only [List.cons_append, List.nil_append, Option.toList]
  refine j_ald_n o dJ1_init_4 rfl rfl (q := 5) rfl ?_
  refine j_iconst o (nI 0) dJ1_init_5 (by decide) (q := 6) rfl ?_
  refine j_pf o dJ1_init_6 0 0 rfl rfl kcJ2 0 (Nat.le_of_ble_eq_true rfl) q151 rfl rfl rfl (Nat.le_of_ble_eq_true rfl) (q := 9) rfl ?_
  dsimp only [List.set]
  exact j_vret o r dJ1_init_9 [_] _ rfl (⟨rfl, rfl⟩) (by omega)
theorem ctJ2_init {l : Launch} {g : jG} (hG : GS l g) (bg : va_W) (q : Nat) : KJ2_init l g 3 0 [.ref q] bg [[(q, eO 0 fdJ2)]] (fun v wd => v = none ∧ ∃ w, wd = [w] ∧ AL g q [] w) := by
  refine Ctr.of [some (.ref q)] hG (by decide +kernel) rfl (Nat.le_of_ble_eq_true rfl) (fun Y hl hN0 o r hI => ?_)
  subst hl
  have hN : ∀ i, i < 1 → i < yN Y := fun i h => by rw [hN0]; exact h
  refine j_ald_n o dJ2_init_0 rfl rfl (q := 1) rfl ?_
  refine j_callI1 o (ctJ1_init hG _ q) dJ2_init_1 q138 wdJ1_init mdJ1_init rfl rfl (Nat.le_of_ble_eq_true rfl) (Nat.le_of_ble_eq_true rfl) (by omega) (Nat.le_of_ble_eq_true rfl) (q := 4) rfl (fun v wd hpost => ?_)
  obtain ⟨rfl, rfl⟩ := hpost
  dsimp only [List.cons_append, List.nil_append, Option.toList]
  refine j_ald_n o dJ2_init_4 rfl rfl (q := 5) rfl ?_
  refine j_gs o dJ2_init_5 o.kf.1 q145 (q := 8) rfl ?_
  refine j_pf o dJ2_init_8 0 0 rfl rfl kcJ2 1 (Nat.le_of_ble_eq_true rfl) q147 rfl rfl rfl (Nat.le_of_ble_eq_true rfl) (q := 11) rfl ?_
  dsimp only [List.set]
  exact j_vret o r dJ2_init_11 [_] _ rfl (⟨rfl, _, rfl, nI 0, jad g 0, Or.inr ⟨rfl, rfl, rfl⟩⟩) (by omega)

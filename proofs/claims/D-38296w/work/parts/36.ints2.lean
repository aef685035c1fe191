/-! small Integers; places in lists; iterators; a list made of another -/
set_option maxRecDepth 100000
theorem vbc {p : Nat} : vb_c (p + 128) = nI p := by
  show nI (p + 128) - nI 128 = nI p
  rw [pk_sub (by omega)]
  congr 1
theorem nI_nm {p : Nat} (h : p < 2 ^ 31) : ¬ nI p < (-128) := fun h2 => nI_pos h (Int32.lt_trans h2 (by decide))
theorem ctJ8_valueOf {l : Launch} {g : jG} (hG : GS l g) (bg : va_W) {p : Nat} (hp : p < 128) : KJ8_valueOf l g 1 0 [.int (nI p)] bg [] (fun v wd => v = some (.ref (icA g p)) ∧ wd = []) := by
  refine Ctr.of [some (.int (nI p))] hG (by decide +kernel) rfl (Nat.le_of_ble_eq_true rfl) (fun Y hl hN0 o r hI => ?_)
  subst hl
  have hN : ∀ i, i < 1 → i < yN Y := fun i h => by rw [hN0]; exact h
  refine j_ild_n o dJ8_valueOf_0 rfl (q := 1) rfl ?_
  refine j_bipush o (-128) dJ8_valueOf_1 (by decide) (q := 3) rfl ?_
  refine j_icltF o (t := 23) dJ8_valueOf_3 (by decide) (q := 6) rfl (nI_nm (by omega)) ?_
  refine j_ild_n o dJ8_valueOf_6 rfl (q := 7) rfl ?_
  refine j_gs o dJ8_valueOf_7 o.kf.2.2.2.2.1 q1493 (q := 10) rfl ?_
  refine j_icgtF o (t := 23) dJ8_valueOf_10 (by decide) (q := 13) rfl (nI_nlt (a := 127) (b := p) (by omega) (by omega)) ?_
  refine j_gs o dJ8_valueOf_13 o.kf.2.2.2.2.2.1 q1495 (q := 16) rfl ?_
  refine j_ild_n o dJ8_valueOf_16 rfl (q := 17) rfl ?_
  refine j_sipush o (nI 128) dJ8_valueOf_17 (by decide) (q := 20) rfl ?_
  refine j_iadd o dJ8_valueOf_20 (q := 21) rfl ?_
  refine j_topi o (nI (p + 128)) (nI_add _ _) ?_
  refine j_tq o dJ8_valueOf_21 o.kf.2.2.2.2.2.2.1 (by omega) (by omega) rfl (q := 22) rfl ?_
  exact j_aret o r dJ8_valueOf_22 (by first | exact Or.inl ⟨_, rfl⟩ | exact Or.inr ⟨_, rfl⟩) rfl [] _ rfl (⟨rfl, rfl⟩) (by omega)
theorem ctJ8_intValue {l : Launch} {g : jG} (hG : GS l g) (bg : va_W) {p : Nat} (hp : p < 128) : KJ8_intValue l g 1 0 [.ref (icA g p)] bg [] (fun v wd => v = some (.int (nI p)) ∧ wd = []) := by
  refine Ctr.of [some (.ref (icA g p))] hG (by decide +kernel) rfl (Nat.le_of_ble_eq_true rfl) (fun Y hl hN0 o r hI => ?_)
  subst hl
  have hN : ∀ i, i < 1 → i < yN Y := fun i h => by rw [hN0]; exact h
  refine j_ald_n o dJ8_intValue_0 rfl rfl (q := 1) rfl ?_
  refine j_gfInt o (k9 := p + 128) (by omega) dJ8_intValue_1 q1506 (q := 4) rfl ?_
  refine j_topi o (nI p) (vbc) ?_
  exact j_ret o r dJ8_intValue_4 rfl [] _ rfl (⟨rfl, rfl⟩) (by omega)
theorem ctJ8_equals {l : Launch} {g : jG} (hG : GS l g) (bg : va_W) {p r9 : Nat} (hp : p < 128) (hr : r9 < 128) : KJ8_equals l g 2 0 [.ref (icA g p), .ref (icA g r9)] bg [] (fun v wd => v = some (.int (nI (if p = r9 then 1 else 0))) ∧ wd = []) := by
  refine Ctr.of [some (.ref (icA g p)), some (.ref (icA g r9))] hG (by decide +kernel) rfl (Nat.le_of_ble_eq_true rfl) (fun Y hl hN0 o r hI => ?_)
  subst hl
  have hN : ∀ i, i < 2 → i < yN Y := fun i h => by rw [hN0]; exact h
  refine j_ald_n o dJ8_equals_0 rfl rfl (q := 1) rfl ?_
  refine j_instR o dJ8_equals_1 q1497 (jRC.int o (by omega)) (q := 4) rfl ?_
  refine j_ifeqF o (t := 27) dJ8_equals_4 (by decide) (q := 7) rfl (by decide) ?_
  refine j_ald_n o dJ8_equals_7 rfl rfl (q := 8) rfl ?_
  refine j_gfInt o (k9 := p + 128) (by omega) dJ8_equals_8 q1506 (q := 11) rfl ?_
  refine j_topi o (nI p) (vbc) ?_
  refine j_ald_n o dJ8_equals_11 rfl rfl (q := 12) rfl ?_
  refine j_castR o dJ8_equals_12 q1497 (jRC.int o (by omega)) (q := 15) rfl ?_
  refine j_callVc o (ctJ8_intValue hG _ hr) dJ8_equals_15 q1548 wdJ8_intValue mdJ8_intValue (jRC.int o (by omega)) rfl (Nat.le_of_ble_eq_true rfl) (Nat.le_of_ble_eq_true rfl) (by omega) (Nat.le_of_ble_eq_true rfl) (q := 18) rfl (fun v wd hpost => ?_)
  obtain ⟨rfl, rfl⟩ := hpost
  dsimp only [List.cons_append, List.nil_append, Option.toList]
  refine j_icne o 25 dJ8_equals_18 (by decide) (q := 21) rfl (fun c => ?_) (fun c => ?_)
  · have c : ¬ p = r9 := fun h => c (by rw [h])
    refine j_iconst o (nI 0) dJ8_equals_25 (by decide) (q := 26) rfl ?_
    exact j_ret o r dJ8_equals_26 rfl [] _ rfl (⟨by rw [if_neg c], rfl⟩) (by omega)
  · have c : p = r9 := (nI_eq (by omega) (by omega)).mp c
    refine j_iconst o (nI 1) dJ8_equals_21 (by decide) (q := 22) rfl ?_
    refine j_goto o 26 dJ8_equals_22 (by decide) ?_
    exact j_ret o r dJ8_equals_26 rfl [] _ rfl (⟨by rw [if_pos c], rfl⟩) (by omega)
/-- where p stands first in the list, or -1 -/
def jIdx (ps : List Nat) (p : Nat) (v : Int32) : Prop := (∃ i, i < ps.length ∧ ps[i]? = some p ∧ (∀ j, j < i → ps[j]? ≠ some p) ∧ v = nI i) ∨ (p ∉ ps ∧ v = -1)
theorem ctJ2_indexOfRange {l : Launch} {g : jG} (hG : GS l g) (bg : va_W) {q p : Nat} {ps : List Nat} (hq : ALR g bg q (ps.map (icA g))) (hp : p < 128) (hps : ∀ x ∈ ps, x < 128) : KJ2_indexOfRange l g 3 0 [.ref q, .ref (icA g p), .int (nI 0), .int (nI ps.length)] bg [] (fun v wd => ∃ x, v = some (.int x) ∧ jIdx ps p x ∧ wd = []) := by
  obtain ⟨m, b, hq, h0, h⟩ := hq
  refine Ctr.of [some (.ref q), some (.ref (icA g p)), some (.int (nI 0)), some (.int (nI ps.length)), none, none] hG (by decide +kernel) rfl (Nat.le_of_ble_eq_true rfl) (fun Y hl hN0 o r hI => ?_)
  subst hl
  have hN : ∀ i, i < 6 → i < yN Y := fun i h => by rw [hN0]; exact h
  have hlen : ps.length < 2 ^ 18 := by simpa using h0
  have loop : ∀ d k, k + d = ps.length → (∀ j, j < k → ps[j]? ≠ some p) → J g Y [] 0 42 [some (.ref q), some (.ref (icA g p)), some (.int (nI 0)), some (.int (nI ps.length)), some (.ref b), some (.int (nI k))] [] := by
    intro d
    induction d with
    | zero =>
      intro k hk hno
      refine j_ild o dJ2_indexOfRange_42 rfl (q := 44) rfl ?_
      refine j_ild_n o dJ2_indexOfRange_44 rfl (q := 45) rfl ?_
      refine j_icgeT o 69 dJ2_indexOfRange_45 (by decide) (nI_le (by omega) (by omega)) ?_
      refine j_iconst o (-1) dJ2_indexOfRange_69 (by decide) (q := 70) rfl ?_
      exact j_ret o r dJ2_indexOfRange_70 rfl [] _ rfl (⟨_, rfl, Or.inr ⟨fun hm => by obtain ⟨i, hi⟩ := List.getElem?_of_mem hm; exact hno i (by have := (List.getElem?_eq_some_iff.mp hi).1; omega) hi, rfl⟩, rfl⟩) (by omega)
    | succ d ih =>
      intro k hk hno
      obtain ⟨x, hx⟩ : ∃ x, ps[k]? = some x := ⟨_, List.getElem?_eq_getElem (by omega)⟩
      have hx9 : x < 128 := hps x (List.mem_of_getElem? hx)
      rcases h with ⟨cap, f, hb, h1, h2, h3⟩ | ⟨hnil, -⟩
      · have h1 : ps.length ≤ cap := by simpa using h1
        refine j_ild o dJ2_indexOfRange_42 rfl (q := 44) rfl ?_
        refine j_ild_n o dJ2_indexOfRange_44 rfl (q := 45) rfl ?_
        refine j_icgeF o (t := 69) dJ2_indexOfRange_45 (by decide) (q := 48) rfl (nI_ge (by omega) (by omega)) ?_
        refine j_ald_n o dJ2_indexOfRange_48 rfl rfl (q := 49) rfl ?_
        refine j_ald o dJ2_indexOfRange_49 rfl rfl (q := 51) rfl ?_
        refine j_ild o dJ2_indexOfRange_51 rfl (q := 53) rfl ?_
        refine j_aald o dJ2_indexOfRange_53 (jb hb) rfl (by omega) (by omega) (by rw [h3 k (by simp; omega), List.getElem?_map, hx]; rfl) (q := 54) rfl ?_
        refine j_callO o (x := ⟨"java/lang/Object", "equals", "(Ljava/lang/Object;)Z"⟩) (owner := "java/lang/Object") (ctJ8_equals hG _ hp hx9) dJ2_indexOfRange_54 q1523 q1525 q1524 q1545 q1546 q82 q1547 q1560 mdJ23_equals (jRC.int o (by omega)) rfl (Nat.le_of_ble_eq_true rfl) (Nat.le_of_ble_eq_true rfl) (by omega) (Nat.le_of_ble_eq_true rfl) (q := 57) rfl (fun v wd hpost => ?_)
        obtain ⟨rfl, rfl⟩ := hpost
        dsimp only [List.cons_append, List.nil_append, Option.toList]
        by_cases hpx : p = x
        · rw [if_pos hpx]
          refine j_ifeqF o (t := 63) dJ2_indexOfRange_57 (by decide) (q := 60) rfl (by decide) ?_
          refine j_ild o dJ2_indexOfRange_60 rfl (q := 62) rfl ?_
          exact j_ret o r dJ2_indexOfRange_62 rfl [] _ rfl (⟨_, rfl, Or.inl ⟨k, by omega, by rw [hx, hpx], hno, rfl⟩, rfl⟩) (by omega)
        · rw [if_neg hpx]
          refine j_ifeqT o 63 dJ2_indexOfRange_57 (by decide) (by decide) ?_
          refine j_inc5 o (nI (k + 1)) dJ2_indexOfRange_63 (by first | exact nI_1 _ | exact pk_m1 _ | rfl) rfl (q := 66) rfl ?_
          refine j_goto o 42 dJ2_indexOfRange_66 (by decide) ?_
          refine ih (k + 1) (by omega) (fun j hj => ?_)
          rcases Nat.lt_or_ge j k with h9 | h9
          · exact hno j h9
          · have : j = k := by omega
            subst this
            rw [hx]
            intro e
            exact hpx (Option.some.inj e).symm
      · simp at hnil
        subst hnil
        simp at hx
  refine j_ald_n o dJ2_indexOfRange_0 rfl rfl (q := 1) rfl ?_
  refine j_gf o dJ2_indexOfRange_1 (jb hq) kcJ2 1 (Nat.le_of_ble_eq_true rfl) q147 rfl (q := 4) rfl ?_
  refine j_ast4 o dJ2_indexOfRange_4 rfl rfl (hN 4 (Nat.le_of_ble_eq_true rfl)) (q := 6) rfl ?_
  refine j_ald_n o dJ2_indexOfRange_6 rfl rfl (q := 7) rfl ?_
  refine j_ifnn o 39 dJ2_indexOfRange_7 (by decide) ?_
  refine j_ild_n o dJ2_indexOfRange_39 rfl (q := 40) rfl ?_
  refine j_ist5 o dJ2_indexOfRange_40 rfl (hN 5 (Nat.le_of_ble_eq_true rfl)) (q := 42) rfl ?_
  exact loop ps.length 0 (by omega) (fun j hj => by omega)
theorem ctJ2_indexOf {l : Launch} {g : jG} (hG : GS l g) (bg : va_W) {q p : Nat} {ps : List Nat} (hq : ALR g bg q (ps.map (icA g))) (hp : p < 128) (hps : ∀ x ∈ ps, x < 128) : KJ2_indexOf l g 4 0 [.ref q, .ref (icA g p)] bg [] (fun v wd => ∃ x, v = some (.int x) ∧ jIdx ps p x ∧ wd = []) := by
  obtain ⟨m, b, hq0, h0⟩ := id hq
  have e : (ps.map (icA g)).length = ps.length := by simp
  refine Ctr.of [some (.ref q), some (.ref (icA g p))] hG (by decide +kernel) rfl (Nat.le_of_ble_eq_true rfl) (fun Y hl hN0 o r hI => ?_)
  subst hl
  have hN : ∀ i, i < 2 → i < yN Y := fun i h => by rw [hN0]; exact h
  refine j_ald_n o dJ2_indexOf_0 rfl rfl (q := 1) rfl ?_
  refine j_ald_n o dJ2_indexOf_1 rfl rfl (q := 2) rfl ?_
  refine j_iconst o (nI 0) dJ2_indexOf_2 (by decide) (q := 3) rfl ?_
  refine j_ald_n o dJ2_indexOf_3 rfl rfl (q := 4) rfl ?_
  refine j_gf o dJ2_indexOf_4 (jb hq0) kcJ2 2 (Nat.le_of_ble_eq_true rfl) q150 rfl (q := 7) rfl ?_
  rw [e]
  refine j_callV0 o (ctJ2_indexOfRange hG _ (hq.mono (fun _ => jmr)) hp hps) dJ2_indexOf_7 q1518 wdJ2_indexOfRange mdJ2_indexOfRange (jb hq0) (by rfl) (by rfl) rfl (Nat.le_of_ble_eq_true rfl) (Nat.le_of_ble_eq_true rfl) (by omega) (Nat.le_of_ble_eq_true rfl) (q := 10) rfl (fun v wd hpost => ?_)
  obtain ⟨x, rfl, hx, rfl⟩ := hpost
  dsimp only [List.cons_append, List.nil_append, Option.toList]
  exact j_ret o r dJ2_indexOf_10 rfl [] _ rfl (⟨x, rfl, hx, rfl⟩) (by omega)
theorem ctJ2_contains {l : Launch} {g : jG} (hG : GS l g) (bg : va_W) {q p : Nat} {ps : List Nat} (hq : ALR g bg q (ps.map (icA g))) (hp : p < 128) (hps : ∀ x ∈ ps, x < 128) : KJ2_contains l g 5 0 [.ref q, .ref (icA g p)] bg [] (fun v wd => v = some (.int (nI (if p ∈ ps then 1 else 0))) ∧ wd = []) := by
  obtain ⟨m, b, hq0, h0, hr9⟩ := id hq
  have hlen : ps.length < 2 ^ 18 := by simpa using h0
  refine Ctr.of [some (.ref q), some (.ref (icA g p))] hG (by decide +kernel) rfl (Nat.le_of_ble_eq_true rfl) (fun Y hl hN0 o r hI => ?_)
  subst hl
  have hN : ∀ i, i < 2 → i < yN Y := fun i h => by rw [hN0]; exact h
  refine j_ald_n o dJ2_contains_0 rfl rfl (q := 1) rfl ?_
  refine j_ald_n o dJ2_contains_1 rfl rfl (q := 2) rfl ?_
  refine j_callV0 o (ctJ2_indexOf hG _ (hq.mono (fun _ => jmr)) hp hps) dJ2_contains_2 q1514 wdJ2_indexOf mdJ2_indexOf (jb hq0) (by rfl) (by rfl) rfl (Nat.le_of_ble_eq_true rfl) (Nat.le_of_ble_eq_true rfl) (by omega) (Nat.le_of_ble_eq_true rfl) (q := 5) rfl (fun v wd hpost => ?_)
  obtain ⟨x, rfl, hx, rfl⟩ := hpost
  dsimp only [List.cons_append, List.nil_append, Option.toList]
  rcases hx with ⟨i, h1, h2, h3, rfl⟩ | ⟨h1, rfl⟩
  · refine j_ifltF o (t := 12) dJ2_contains_5 (by decide) (q := 8) rfl (nI_pos (by omega)) ?_
    refine j_iconst o (nI 1) dJ2_contains_8 (by decide) (q := 9) rfl ?_
    refine j_goto o 13 dJ2_contains_9 (by decide) ?_
    exact j_ret o r dJ2_contains_13 rfl [] _ rfl (⟨by rw [if_pos (List.mem_of_getElem? h2)], rfl⟩) (by omega)
  · refine j_ifltT o 12 dJ2_contains_5 (by decide) (by decide) ?_
    refine j_iconst o (nI 0) dJ2_contains_12 (by decide) (q := 13) rfl ?_
    exact j_ret o r dJ2_contains_13 rfl [] _ rfl (⟨by rw [if_neg h1], rfl⟩) (by omega)
abbrev itO (c : Nat) (lr m : Int32) (q : Nat) : va_E := eO 16 [.int (nI c), .int lr, .int m, .ref q]
theorem ctJ6_init {l : Launch} {g : jG} (hG : GS l g) (bg : va_W) {it q b n : Nat} {m : Int32} (hq : (q, alO m b n) ∈ bg) : KJ6_init l g 2 0 [.ref it, .ref q] bg [[(it, eO 16 fdJ6)]] (fun v wd => v = none ∧ wd = [[(it, itO 0 (-1) m q)]]) := by
  refine Ctr.of [some (.ref it), some (.ref q)] hG (by decide +kernel) rfl (Nat.le_of_ble_eq_true rfl) (fun Y hl hN0 o r hI => ?_)
  subst hl
  have hN : ∀ i, i < 2 → i < yN Y := fun i h => by rw [hN0]; exact h
  refine j_ald_n o dJ6_init_0 rfl rfl (q := 1) rfl ?_
  refine j_ald_n o dJ6_init_1 rfl rfl (q := 2) rfl ?_
  refine j_pfF o dJ6_init_2 (hI rfl) 0 0 rfl rfl kcJ6 3 (Nat.le_of_ble_eq_true rfl) q1457 rfl rfl rfl rfl (Nat.le_of_ble_eq_true rfl) (q := 5) rfl ?_
  dsimp only [List.set]
  refine j_ald_n o dJ6_init_5 rfl rfl (q := 6) rfl ?_
  refine j_obj o (Nat.le_of_ble_eq_true rfl) dJ6_init_6 q1453 q110 q111 (Nat.le_of_ble_eq_true rfl) (q := 9) rfl ?_
  refine j_ald_n o dJ6_init_9 rfl rfl (q := 10) rfl ?_
  refine j_iconst o (-1) dJ6_init_10 (by decide) (q := 11) rfl ?_
  refine j_pf o dJ6_init_11 0 0 rfl rfl kcJ6 1 (Nat.le_of_ble_eq_true rfl) q1455 rfl rfl rfl (Nat.le_of_ble_eq_true rfl) (q := 14) rfl ?_
  dsimp only [List.set]
  refine j_ald_n o dJ6_init_14 rfl rfl (q := 15) rfl ?_
  refine j_ald_n o dJ6_init_15 rfl rfl (q := 16) rfl ?_
  refine j_gf o dJ6_init_16 (jw 0 0 rfl rfl) kcJ6 3 (Nat.le_of_ble_eq_true rfl) q1457 rfl (q := 19) rfl ?_
  refine j_gfI o dJ6_init_19 (jb hq) kcJ2 0 (Nat.le_of_ble_eq_true rfl) q152 q153 rfl (q := 22) rfl ?_
  refine j_pf o dJ6_init_22 0 0 rfl rfl kcJ6 2 (Nat.le_of_ble_eq_true rfl) q1456 rfl rfl rfl (Nat.le_of_ble_eq_true rfl) (q := 25) rfl ?_
  dsimp only [List.set]
  exact j_vret o r dJ6_init_25 [_] _ rfl (⟨rfl, rfl⟩) (by omega)
theorem ctJ2_iterator {l : Launch} {g : jG} (hG : GS l g) (bg : va_W) {q b n : Nat} {m : Int32} (hq : (q, alO m b n) ∈ bg) : KJ2_iterator l g 3 1 [.ref q] bg [] (fun v wd => ∃ it, v = some (.ref it) ∧ jB g ≤ it ∧ wd = [[(it, itO 0 (-1) m q)]]) := by
  refine Ctr.of [some (.ref q)] hG (by decide +kernel) rfl (Nat.le_of_ble_eq_true rfl) (fun Y hl hN0 o r hI => ?_)
  subst hl
  have hN : ∀ i, i < 1 → i < yN Y := fun i h => by rw [hN0]; exact h
  refine j_new o (fs := fdJ6) 1 dJ2_iterator_0 kcJ6 q1448 q1449 q80 dfJ6 (by omega) (by decide) (q := 3) rfl (fun it hb_it => ?_)
  refine j_dup o dJ2_iterator_3 rfl (q := 4) rfl ?_
  refine j_ald_n o dJ2_iterator_4 rfl rfl (q := 5) rfl ?_
  refine j_callI1 o (ctJ6_init hG _ (jmr hq)) dJ2_iterator_5 q1450 wdJ6_init mdJ6_init rfl rfl (Nat.le_of_ble_eq_true rfl) (Nat.le_of_ble_eq_true rfl) (by omega) (Nat.le_of_ble_eq_true rfl) (q := 8) rfl (fun v wd hpost => ?_)
  obtain ⟨rfl, rfl⟩ := hpost
  dsimp only [List.cons_append, List.nil_append, Option.toList]
  exact j_aret o r dJ2_iterator_8 (by first | exact Or.inl ⟨_, rfl⟩ | exact Or.inr ⟨_, rfl⟩) rfl [_] _ rfl (⟨it, rfl, hb_it, rfl⟩) (by omega)
theorem ctJ6_hasNext {l : Launch} {g : jG} (hG : GS l g) (bg : va_W) {it c q b n : Nat} {lr m : Int32} (hq : (q, alO m b n) ∈ bg) (hn : n < 2 ^ 31) (hc : c ≤ n) : KJ6_hasNext l g 1 0 [.ref it] bg [[(it, itO c lr m q)]] (fun v wd => v = some (.int (nI (if c = n then 0 else 1))) ∧ wd = [[(it, itO c lr m q)]]) := by
  refine Ctr.of [some (.ref it)] hG (by decide +kernel) rfl (Nat.le_of_ble_eq_true rfl) (fun Y hl hN0 o r hI => ?_)
  subst hl
  have hN : ∀ i, i < 1 → i < yN Y := fun i h => by rw [hN0]; exact h
  refine j_ald_n o dJ6_hasNext_0 rfl rfl (q := 1) rfl ?_
  refine j_gf o dJ6_hasNext_1 (jw 0 0 rfl rfl) kcJ6 0 (Nat.le_of_ble_eq_true rfl) q1454 rfl (q := 4) rfl ?_
  refine j_ald_n o dJ6_hasNext_4 rfl rfl (q := 5) rfl ?_
  refine j_gf o dJ6_hasNext_5 (jw 0 0 rfl rfl) kcJ6 3 (Nat.le_of_ble_eq_true rfl) q1457 rfl (q := 8) rfl ?_
  refine j_gfN o dJ6_hasNext_8 (jb hq) kcJ2 2 (Nat.le_of_ble_eq_true rfl) q149 rfl (q := 11) rfl ?_
  refine j_iceq o 18 dJ6_hasNext_11 (by decide) (q := 14) rfl (fun h => ?_) (fun h => ?_)
  · rw [nI_eq (by omega) hn] at h
    refine j_iconst o (nI 0) dJ6_hasNext_18 (by decide) (q := 19) rfl ?_
    exact j_ret o r dJ6_hasNext_19 rfl [_] _ rfl (⟨by rw [if_pos h], rfl⟩) (by omega)
  · have h : ¬ c = n := fun e => h (by rw [e])
    refine j_iconst o (nI 1) dJ6_hasNext_14 (by decide) (q := 15) rfl ?_
    refine j_goto o 19 dJ6_hasNext_15 (by decide) ?_
    exact j_ret o r dJ6_hasNext_19 rfl [_] _ rfl (⟨by rw [if_neg h], rfl⟩) (by omega)
theorem ctJ6_checkForComodification {l : Launch} {g : jG} (hG : GS l g) (bg : va_W) {it c q b n : Nat} {lr m : Int32} (hq : (q, alO m b n) ∈ bg) (hit : (it, itO c lr m q) ∈ bg) : KJ6_checkForComodification l g 1 0 [.ref it] bg [] (fun v wd => v = none ∧ wd = []) := by
  refine Ctr.of [some (.ref it)] hG (by decide +kernel) rfl (Nat.le_of_ble_eq_true rfl) (fun Y hl hN0 o r hI => ?_)
  subst hl
  have hN : ∀ i, i < 1 → i < yN Y := fun i h => by rw [hN0]; exact h
  refine j_ald_n o dJ6_checkForComodification_0 rfl rfl (q := 1) rfl ?_
  refine j_gf o dJ6_checkForComodification_1 (jb hit) kcJ6 3 (Nat.le_of_ble_eq_true rfl) q1457 rfl (q := 4) rfl ?_
  refine j_gfI o dJ6_checkForComodification_4 (jb hq) kcJ2 0 (Nat.le_of_ble_eq_true rfl) q152 q153 rfl (q := 7) rfl ?_
  refine j_ald_n o dJ6_checkForComodification_7 rfl rfl (q := 8) rfl ?_
  refine j_gf o dJ6_checkForComodification_8 (jb hit) kcJ6 2 (Nat.le_of_ble_eq_true rfl) q1456 rfl (q := 11) rfl ?_
  refine j_iceqT o 22 dJ6_checkForComodification_11 (by decide) rfl ?_
  exact j_vret o r dJ6_checkForComodification_22 [] _ rfl (⟨rfl, rfl⟩) (by omega)
theorem ctJ6_next {l : Launch} {g : jG} (hG : GS l g) (bg : va_W) {it c q b x : Nat} {lr m : Int32} {xs : List Nat} (hq : ALr g bg q m b xs) (hx : xs[c]? = some x) : KJ6_next l g 2 0 [.ref it] bg [[(it, itO c lr m q)]] (fun v wd => v = some (.ref x) ∧ wd = [[(it, itO (c + 1) (nI c) m q)]]) := by
  obtain ⟨hq, h0, h⟩ := hq
  have hc : c < xs.length := (List.getElem?_eq_some_iff.mp hx).1
  rcases h with ⟨cap, f, hb, h1, h2, h3⟩ | ⟨rfl, -⟩
  · refine Ctr.of [some (.ref it), none, none] hG (by decide +kernel) rfl (Nat.le_of_ble_eq_true rfl) (fun Y hl hN0 o r hI => ?_)
    subst hl
    have hN : ∀ i, i < 3 → i < yN Y := fun i h => by rw [hN0]; exact h
    refine j_ald_n o dJ6_next_0 rfl rfl (q := 1) rfl ?_
    refine j_callV0 o (ctJ6_checkForComodification hG _ (it := it) (c := c) (q := q) (b := b) (n := xs.length) (lr := lr) (m := m) (jmr hq) (by simp)) dJ6_next_1 q1486 wdJ6_checkForComodification mdJ6_checkForComodification (jw 0 0 rfl rfl) (by rfl) (by rfl) rfl (Nat.le_of_ble_eq_true rfl) (Nat.le_of_ble_eq_true rfl) (by omega) (Nat.le_of_ble_eq_true rfl) (q := 4) rfl (fun v wd hpost => ?_)
    obtain ⟨rfl, rfl⟩ := hpost
    dsimp only [List.cons_append, List.nil_append, Option.toList]
    refine j_ald_n o dJ6_next_4 rfl rfl (q := 5) rfl ?_
    refine j_gf o dJ6_next_5 (jw 0 0 rfl rfl) kcJ6 0 (Nat.le_of_ble_eq_true rfl) q1454 rfl (q := 8) rfl ?_
    refine j_ist1 o dJ6_next_8 rfl (hN 1 (Nat.le_of_ble_eq_true rfl)) (q := 9) rfl ?_
    refine j_ild_n o dJ6_next_9 rfl (q := 10) rfl ?_
    refine j_ald_n o dJ6_next_10 rfl rfl (q := 11) rfl ?_
    refine j_gf o dJ6_next_11 (jw 0 0 rfl rfl) kcJ6 3 (Nat.le_of_ble_eq_true rfl) q1457 rfl (q := 14) rfl ?_
    refine j_gfN o dJ6_next_14 (jb hq) kcJ2 2 (Nat.le_of_ble_eq_true rfl) q149 rfl (q := 17) rfl ?_
    refine j_icltT o 28 dJ6_next_17 (by decide) (nI_lt hc (by omega)) ?_
    refine j_ald_n o dJ6_next_28 rfl rfl (q := 29) rfl ?_
    refine j_gf o dJ6_next_29 (jw 0 0 rfl rfl) kcJ6 3 (Nat.le_of_ble_eq_true rfl) q1457 rfl (q := 32) rfl ?_
    refine j_gf o dJ6_next_32 (jb hq) kcJ2 1 (Nat.le_of_ble_eq_true rfl) q148 rfl (q := 35) rfl ?_
    refine j_ast2 o dJ6_next_35 rfl rfl (hN 2 (Nat.le_of_ble_eq_true rfl)) (q := 36) rfl ?_
    refine j_ild_n o dJ6_next_36 rfl (q := 37) rfl ?_
    refine j_ald_n o dJ6_next_37 rfl rfl (q := 38) rfl ?_
    refine j_alen o dJ6_next_38 (jb hb) rfl rfl (q := 39) rfl ?_
    refine j_icltT o 50 dJ6_next_39 (by decide) (nI_lt (by omega) (by omega)) ?_
    refine j_ald_n o dJ6_next_50 rfl rfl (q := 51) rfl ?_
    refine j_ild_n o dJ6_next_51 rfl (q := 52) rfl ?_
    refine j_iconst o (nI 1) dJ6_next_52 (by decide) (q := 53) rfl ?_
    refine j_iadd o dJ6_next_53 (q := 54) rfl ?_
    refine j_topi o (nI (c + 1)) (nI_1 _) ?_
    refine j_pf o dJ6_next_54 0 0 rfl rfl kcJ6 0 (Nat.le_of_ble_eq_true rfl) q1454 rfl rfl rfl (Nat.le_of_ble_eq_true rfl) (q := 57) rfl ?_
    dsimp only [List.set]
    refine j_ald_n o dJ6_next_57 rfl rfl (q := 58) rfl ?_
    refine j_ald_n o dJ6_next_58 rfl rfl (q := 59) rfl ?_
    refine j_ild_n o dJ6_next_59 rfl (q := 60) rfl ?_
    refine j_dup_x1 o dJ6_next_60 rfl rfl (q := 61) rfl ?_
    refine j_pf o dJ6_next_61 0 0 rfl rfl kcJ6 1 (Nat.le_of_ble_eq_true rfl) q1455 rfl rfl rfl (Nat.le_of_ble_eq_true rfl) (q := 64) rfl ?_
    dsimp only [List.set]
    refine j_aald o dJ6_next_64 (jb hb) rfl (by omega) (by omega) (by rw [h3 c hc]; exact hx) (q := 65) rfl ?_
    exact j_aret o r dJ6_next_65 (by first | exact Or.inl ⟨_, rfl⟩ | exact Or.inr ⟨_, rfl⟩) rfl [_] _ rfl (⟨rfl, rfl⟩) (by omega)
  · simp at hx

/-! THE STORE, fifteenth: taken, longest, visits -/
set_option maxRecDepth 100000
def cnt (us : List Nat) : Nat → Nat
  | 0 => 0
  | k + 1 => cnt us k + (if k ∈ us then 1 else 0)
theorem cnt_range (us : List Nat) : ∀ k, cnt us k = ((List.range k).filter (fun x => decide (x ∈ us))).length := by
  intro k
  induction k with
  | zero => rfl
  | succ k ih =>
    rw [List.range_succ, List.filter_append, List.length_append, ← ih]
    by_cases h : k ∈ us
    · simp [cnt, h]
    · simp [cnt, h]
theorem cnt_all {us : List Nat} (h : us.Nodup) (h2 : ∀ k ∈ us, k < 96) : cnt us 96 = us.length := by
  rw [cnt_range]
  apply Nat.le_antisymm
  · exact nd_le _ _ (List.nodup_range.sublist List.filter_sublist) (fun x hx => by simpa using (List.mem_filter.mp hx).2)
  · exact nd_le _ _ h (fun x hx => List.mem_filter.mpr ⟨List.mem_range.mpr (h2 x hx), by simpa using hx⟩)
theorem cnt_le (us : List Nat) : ∀ k, cnt us k ≤ k := by
  intro k
  induction k with
  | zero => exact Nat.le_refl _
  | succ k ih => unfold cnt; split <;> omega
theorem usd_nd {B : List Bkt} (h : ndB B) : (usd B).Nodup := by
  unfold usd List.Nodup
  rw [List.pairwise_flatMap]
  refine ⟨fun b hb => h.1 b hb, List.pairwise_iff_getElem.mpr (fun i j hi hj hij x hx y hy e => ?_)⟩
  subst e
  have := h.2 i j _ _ x (List.getElem?_eq_getElem hi) (List.getElem?_eq_getElem hj) hx hy
  omega
theorem usd_cnt {cap more : Nat} {B : List Bkt} (h : fits cap B more) : cnt (usd B) 96 = (usd B).length := by
  refine cnt_all (usd_nd h.2.2.2.2.2.2) (fun k hk => ?_)
  obtain ⟨j, b, h1, h2⟩ := mem_usd.mp hk
  exact (h.2.2.2.2.2.1 b (List.mem_of_getElem? h1)).2.2.2.2 k h2
theorem ctX2_taken {l : Launch} {g : jG} (hG : GS l g) (bg : va_W) {q sz hs lv pt bl tk : Nat} {F : K5} {us : List Nat} (hq : (q, stO F lv pt sz hs bl tk) ∈ bg) (ht : (tk, tkO g us) ∈ bg) : KX2_taken l g 2 0 [.ref q] bg [] (fun v wd => v = some (.int (nI (cnt us 96))) ∧ wd = []) := by
  refine Ctr.of [some (.ref q), none, none] hG (by decide +kernel) rfl (Nat.le_of_ble_eq_true rfl) (fun Y hl hN0 o r hI => ?_)
  subst hl
  have hN : ∀ i, i < 3 → i < yN Y := fun i h => by rw [hN0]; exact h
  have loop : ∀ d k, k + d = 96 → J g Y [] 0 4 [some (.ref q), some (.int (nI (cnt us k))), some (.int (nI k))] [] := by
    intro d
    induction d with
    | zero =>
      intro k hk9
      have hk9 : k = 96 := hk9
      subst hk9
      refine j_ild_n o dX2_taken_4 rfl (q := 5) rfl ?_
      refine j_bipush o (nI 96) dX2_taken_5 (by decide) (q := 7) rfl ?_
      refine j_icgeT o 28 dX2_taken_7 (by decide) (by decide) ?_
      refine j_ild_n o dX2_taken_28 rfl (q := 29) rfl ?_
      exact j_ret o r dX2_taken_29 rfl [] _ rfl (⟨rfl, rfl⟩) (by omega)
    | succ d ih =>
      intro k hk9
      refine j_ild_n o dX2_taken_4 rfl (q := 5) rfl ?_
      refine j_bipush o (nI 96) dX2_taken_5 (by decide) (q := 7) rfl ?_
      refine j_icgeF o (t := 28) dX2_taken_7 (by decide) (q := 10) rfl (nI_ge (a := k) (b := 96) (by omega) (by omega)) ?_
      refine j_ild_n o dX2_taken_10 rfl (q := 11) rfl ?_
      refine j_ald_n o dX2_taken_11 rfl rfl (q := 12) rfl ?_
      refine j_gf o dX2_taken_12 (jb hq) kcX2 10 (Nat.le_of_ble_eq_true rfl) q311 rfl (q := 15) rfl ?_
      refine j_ild_n o dX2_taken_15 rfl (q := 16) rfl ?_
      refine j_zald o dX2_taken_16 (jb ht) (by omega) (by omega) (q := 17) rfl ?_
      refine j_callSN0 o (ctX1_bit hG _ (n := if k ∈ us then 1 else 0) (by split <;> simp)) dX2_taken_17 q666 wdX1_bit mdX1_bit rfl (Nat.le_of_ble_eq_true rfl) (Nat.le_of_ble_eq_true rfl) (by omega) (Nat.le_of_ble_eq_true rfl) (q := 20) rfl (fun v wd hpost => ?_)
      obtain ⟨rfl, rfl⟩ := hpost
      dsimp only [List.cons_append, List.nil_append, Option.toList]
      refine j_iadd o dX2_taken_20 (q := 21) rfl ?_
      refine j_topi o (nI (cnt us (k + 1))) (nI_add _ _) ?_
      refine j_ist1 o dX2_taken_21 rfl (hN 1 (Nat.le_of_ble_eq_true rfl)) (q := 22) rfl ?_
      refine j_inc2 o (nI (k + 1)) dX2_taken_22 (by first | exact nI_1 _ | exact pk_m1 _ | rfl) rfl (q := 25) rfl ?_
      refine j_goto o 4 dX2_taken_25 (by decide) ?_
      exact ih (k + 1) (by omega)
  refine j_iconst o (nI 0) dX2_taken_0 (by decide) (q := 1) rfl ?_
  refine j_ist1 o dX2_taken_1 rfl (hN 1 (Nat.le_of_ble_eq_true rfl)) (q := 2) rfl ?_
  refine j_iconst o (nI 0) dX2_taken_2 (by decide) (q := 3) rfl ?_
  refine j_ist2 o dX2_taken_3 rfl (hN 2 (Nat.le_of_ble_eq_true rfl)) (q := 4) rfl ?_
  exact loop 96 0 rfl
def lng (B : List Bkt) : Nat := B.foldl (fun a b => max a b.2.1.length) 0
theorem lng_snoc {B : List Bkt} {b : Bkt} : lng (B ++ [b]) = max (lng B) b.2.1.length := by simp [lng, List.foldl_append]
theorem ctX2_longest {l : Launch} {g : jG} (hG : GS l g) (bg : va_W) {q sz hs lv pt : Nat} {F : K5} {B : List Bkt} {ess : List (List Nat)} (hR : stR g bg hs q F lv pt sz B ess) (hl : ∀ b ∈ B, b.2.1.length < 2 ^ 10) : KX2_longest l g 4 0 [.ref q] bg [] (fun v wd => v = some (.int (nI (lng B))) ∧ wd = []) := by
  obtain ⟨bl, tk, qs, r1, r2, r3, r4, r5, r6⟩ := hR
  obtain ⟨m1, b1, hz1, hz0, -⟩ := id r3
  refine Ctr.of [some (.ref q), none, none] hG (by decide +kernel) rfl (Nat.le_of_ble_eq_true rfl) (fun Y hl hN0 o r hI => ?_)
  subst hl
  have hN : ∀ i, i < 3 → i < yN Y := fun i h => by rw [hN0]; exact h
  have loop : ∀ d k, k + d = B.length → lng (B.take k) < 2 ^ 10 → J g Y [] 0 4 [some (.ref q), some (.int (nI (lng (B.take k)))), some (.int (nI k))] [] := by
    intro d
    induction d with
    | zero =>
      intro k hk9 hlt
      rw [List.take_of_length_le (by omega)]
      refine j_ild_n o dX2_longest_4 rfl (q := 5) rfl ?_
      refine j_ald_n o dX2_longest_5 rfl rfl (q := 6) rfl ?_
      refine j_gf o dX2_longest_6 (jb r1) kcX2 9 (Nat.le_of_ble_eq_true rfl) q309 rfl (q := 9) rfl ?_
      refine j_callV0 o (ctJ2_size hG _ (jmr hz1)) dX2_longest_9 q417 wdJ2_size mdJ2_size (jb hz1) (by rfl) (by rfl) rfl (Nat.le_of_ble_eq_true rfl) (Nat.le_of_ble_eq_true rfl) (by omega) (Nat.le_of_ble_eq_true rfl) (q := 12) rfl (fun v wd hpost => ?_)
      obtain ⟨rfl, rfl⟩ := hpost
      dsimp only [List.cons_append, List.nil_append, Option.toList]
      refine j_icgeT o 43 dX2_longest_12 (by decide) (nI_le (by omega) (by omega)) ?_
      refine j_ild_n o dX2_longest_43 rfl (q := 44) rfl ?_
      exact j_ret o r dX2_longest_44 rfl [] _ rfl (⟨rfl, rfl⟩) (by omega)
    | succ d ih =>
      intro k hk9 hlt
      obtain ⟨qb, hqb⟩ := get_ex (xs := qs) (i := k) (by omega)
      obtain ⟨es, hes⟩ := get_ex (xs := ess) (i := k) (by omega)
      have hB := bAt_ex (B := B) (i := k) (by omega)
      obtain ⟨cb, ps, c1, c2, c3⟩ := r6 k qb _ es hqb hB hes
      obtain ⟨m2, b2, hz2, -⟩ := id c2
      have hpl := hl _ (List.mem_of_getElem? hB)
      have htk : B.take (k + 1) = B.take k ++ [bAt B k] := by rw [List.take_add_one, hB]; rfl
      have hps := c3.1
      refine j_ild_n o dX2_longest_4 rfl (q := 5) rfl ?_
      refine j_ald_n o dX2_longest_5 rfl rfl (q := 6) rfl ?_
      refine j_gf o dX2_longest_6 (jb r1) kcX2 9 (Nat.le_of_ble_eq_true rfl) q309 rfl (q := 9) rfl ?_
      refine j_callV0 o (ctJ2_size hG _ (jmr hz1)) dX2_longest_9 q417 wdJ2_size mdJ2_size (jb hz1) (by rfl) (by rfl) rfl (Nat.le_of_ble_eq_true rfl) (Nat.le_of_ble_eq_true rfl) (by omega) (Nat.le_of_ble_eq_true rfl) (q := 12) rfl (fun v wd hpost => ?_)
      obtain ⟨rfl, rfl⟩ := hpost
      dsimp only [List.cons_append, List.nil_append, Option.toList]
      refine j_icgeF o (t := 43) dX2_longest_12 (by decide) (q := 15) rfl (nI_ge (by omega) (by omega)) ?_
      refine j_ild_n o dX2_longest_15 rfl (q := 16) rfl ?_
      refine j_ald_n o dX2_longest_16 rfl rfl (q := 17) rfl ?_
      refine j_gf o dX2_longest_17 (jb r1) kcX2 9 (Nat.le_of_ble_eq_true rfl) q309 rfl (q := 20) rfl ?_
      refine j_ild_n o dX2_longest_20 rfl (q := 21) rfl ?_
      refine j_callV0 o (ctJ2_get hG _ (r3.mono (fun _ => jmr)) hqb) dX2_longest_21 q418 wdJ2_get mdJ2_get (jb hz1) (by rfl) (by rfl) rfl (Nat.le_of_ble_eq_true rfl) (Nat.le_of_ble_eq_true rfl) (by omega) (Nat.le_of_ble_eq_true rfl) (q := 24) rfl (fun v wd hpost => ?_)
      obtain ⟨rfl, rfl⟩ := hpost
      dsimp only [List.cons_append, List.nil_append, Option.toList]
      refine j_castS (r := (RX4, TX4, 2)) o dX2_longest_24 q174 (jb c1) (ci := 4) rfl (q := 27) rfl ?_
      refine j_gf o dX2_longest_27 (jb c1) kcX4 0 (Nat.le_of_ble_eq_true rfl) q183 rfl (q := 30) rfl ?_
      refine j_callV0 o (ctJ2_size hG _ (jmr hz2)) dX2_longest_30 q417 wdJ2_size mdJ2_size (jb hz2) (by rfl) (by rfl) rfl (Nat.le_of_ble_eq_true rfl) (Nat.le_of_ble_eq_true rfl) (by omega) (Nat.le_of_ble_eq_true rfl) (q := 33) rfl (fun v wd hpost => ?_)
      obtain ⟨rfl, rfl⟩ := hpost
      dsimp only [List.cons_append, List.nil_append, Option.toList]
      refine j_mmax o dX2_longest_33 q684 (by omega) (by omega) (Nat.le_of_ble_eq_true rfl) (by omega) (Nat.le_of_ble_eq_true rfl) (q := 36) rfl ?_
      refine j_ist1 o dX2_longest_36 rfl (hN 1 (Nat.le_of_ble_eq_true rfl)) (q := 37) rfl ?_
      refine j_inc2 o (nI (k + 1)) dX2_longest_37 (by first | exact nI_1 _ | exact pk_m1 _ | rfl) rfl (q := 40) rfl ?_
      refine j_goto o 4 dX2_longest_40 (by decide) ?_
      have ih := ih (k + 1) (by omega) (by rw [htk, lng_snoc]; omega)
      rw [htk, lng_snoc, ← hps] at ih
      exact ih
  refine j_iconst o (nI 0) dX2_longest_0 (by decide) (q := 1) rfl ?_
  refine j_ist1 o dX2_longest_1 rfl (hN 1 (Nat.le_of_ble_eq_true rfl)) (q := 2) rfl ?_
  refine j_iconst o (nI 0) dX2_longest_2 (by decide) (q := 3) rfl ?_
  refine j_ist2 o dX2_longest_3 rfl (hN 2 (Nat.le_of_ble_eq_true rfl)) (q := 4) rfl ?_
  exact loop B.length 0 (by omega) (by simp [lng])
def vsH (ch sd n f : Nat) : Nat := hsh ch sd (if n = 1 then 100 * f else f)
def vsOne (ch sd n f N k : Nat) : Nat := if (vsH ch sd n f ^^^ k) &&& ((if n = 1 then ch else 1023 - ch) &&& (2 * 2 ^ dpt N k - 1)) = 0 then 1 else 0
def vis (ch sd n f N : Nat) : Nat → Nat
  | 0 => 0
  | k + 1 => vis ch sd n f N k + vsOne ch sd n f N k
theorem dpt_le {n b : Nat} (h : n ≤ 64) : dpt n b ≤ 20 := by
  have := lvl_lt h
  unfold dpt
  split <;> omega
theorem ctX2_visits {l : Launch} {g : jG} (hG : GS l g) (bg : va_W) {q sz hs ch sd n f : Nat} {F : K5} {B : List Bkt} {ess : List (List Nat)} (hR : stR g bg hs q F (lvl B.length) (ptr B.length) sz B ess) (hh : (hs, hsO ch sd) ∈ bg) (h2 : 2 ≤ B.length) (h64 : B.length ≤ 60) (hc : ch < 1024) (hs9 : sd < 10) (hn : n = 0 ∨ n = 1) (hf : f < 100) : KX2_visits l g 4 0 [.ref q, .int (nI n), .int (nI f)] bg [] (fun v wd => v = some (.int (nI (vis ch sd n f B.length B.length))) ∧ wd = []) := by
  obtain ⟨bl, tk, qs, r1, r2, r3, r4, r5, r6⟩ := hR
  obtain ⟨m1, b1, hz1, hz0, -⟩ := id r3
  have hlv := lvl_lt (n := B.length) (by omega)
  have hpl := ptr_le (n := B.length)
  have hv9 : vsH ch sd n f < 1024 := hsh_lt _ _ _
  refine Ctr.of [some (.ref q), some (.int (nI n)), some (.int (nI f)), none, none, none, none] hG (by decide +kernel) rfl (Nat.le_of_ble_eq_true rfl) (fun Y hl hN0 o r hI => ?_)
  subst hl
  have hN : ∀ i, i < 7 → i < yN Y := fun i h => by rw [hN0]; exact h
  have loop : ∀ d k (x6 : Option Value), k + d = B.length → J g Y [] 0 26 [some (.ref q), some (.int (nI n)), some (.int (nI f)), some (.int (nI (vsH ch sd n f))), some (.int (nI (vis ch sd n f B.length k))), some (.int (nI k)), x6] [] := by
    intro d
    induction d with
    | zero =>
      intro k x6 hk9
      have hk9 : k = B.length := hk9
      subst hk9
      refine j_ild o dX2_visits_26 rfl (q := 28) rfl ?_
      refine j_ald_n o dX2_visits_28 rfl rfl (q := 29) rfl ?_
      refine j_gf o dX2_visits_29 (jb r1) kcX2 9 (Nat.le_of_ble_eq_true rfl) q309 rfl (q := 32) rfl ?_
      refine j_callV0 o (ctJ2_size hG _ (jmr hz1)) dX2_visits_32 q417 wdJ2_size mdJ2_size (jb hz1) (by rfl) (by rfl) rfl (Nat.le_of_ble_eq_true rfl) (Nat.le_of_ble_eq_true rfl) (by omega) (Nat.le_of_ble_eq_true rfl) (q := 35) rfl (fun v wd hpost => ?_)
      obtain ⟨rfl, rfl⟩ := hpost
      dsimp only [List.cons_append, List.nil_append, Option.toList]
      refine j_icgeT o 88 dX2_visits_35 (by decide) (nI_le (by omega) (by omega)) ?_
      refine j_ild o dX2_visits_88 rfl (q := 90) rfl ?_
      exact j_ret o r dX2_visits_90 rfl [] _ rfl (⟨rfl, rfl⟩) (by omega)
    | succ d ih =>
      intro k x6 hk9
      have hdp := dpt_le (n := B.length) (b := k) (by omega)
      have hp2 : 2 ^ dpt B.length k ≤ 2 ^ 20 := Nat.pow_le_pow_right (by omega) hdp
      have hp0 := Nat.two_pow_pos (dpt B.length k)
      have hde : dpt B.length k = lvl B.length + if k < ptr B.length ∨ 2 * 2 ^ lvl B.length ≤ k then 1 else 0 := by rw [bse_lvl h2]; rfl
      refine j_ild o dX2_visits_26 rfl (q := 28) rfl ?_
      refine j_ald_n o dX2_visits_28 rfl rfl (q := 29) rfl ?_
      refine j_gf o dX2_visits_29 (jb r1) kcX2 9 (Nat.le_of_ble_eq_true rfl) q309 rfl (q := 32) rfl ?_
      refine j_callV0 o (ctJ2_size hG _ (jmr hz1)) dX2_visits_32 q417 wdJ2_size mdJ2_size (jb hz1) (by rfl) (by rfl) rfl (Nat.le_of_ble_eq_true rfl) (Nat.le_of_ble_eq_true rfl) (by omega) (Nat.le_of_ble_eq_true rfl) (q := 35) rfl (fun v wd hpost => ?_)
      obtain ⟨rfl, rfl⟩ := hpost
      dsimp only [List.cons_append, List.nil_append, Option.toList]
      refine j_icgeF o (t := 88) dX2_visits_35 (by decide) (q := 38) rfl (nI_ge (by omega) (by omega)) ?_
      refine j_ald_n o dX2_visits_38 rfl rfl (q := 39) rfl ?_
      refine j_gf o dX2_visits_39 (jb r1) kcX2 8 (Nat.le_of_ble_eq_true rfl) q307 rfl (q := 42) rfl ?_
      refine j_ild_n o dX2_visits_42 rfl (q := 43) rfl ?_
      refine j_callV0 o (ctX3_digits hG _ (jmr hh) hc hn) dX2_visits_43 q1025 wdX3_digits mdX3_digits (jb hh) (by rfl) (by rfl) rfl (Nat.le_of_ble_eq_true rfl) (Nat.le_of_ble_eq_true rfl) (by omega) (Nat.le_of_ble_eq_true rfl) (q := 46) rfl (fun v wd hpost => ?_)
      obtain ⟨rfl, rfl⟩ := hpost
      dsimp only [List.cons_append, List.nil_append, Option.toList]
      refine j_iconst o (nI 2) dX2_visits_46 (by decide) (q := 47) rfl ?_
      refine j_ald_n o dX2_visits_47 rfl rfl (q := 48) rfl ?_
      refine j_ild o dX2_visits_48 rfl (q := 50) rfl ?_
      refine j_callV0 o (ctX2_depth hG _ (F := F) (jmr r1) hlv (by omega) (by omega)) dX2_visits_50 q1029 wdX2_depth mdX2_depth (jb r1) (by rfl) (by rfl) rfl (Nat.le_of_ble_eq_true rfl) (Nat.le_of_ble_eq_true rfl) (by omega) (Nat.le_of_ble_eq_true rfl) (q := 53) rfl (fun v wd hpost => ?_)
      obtain ⟨rfl, rfl⟩ := hpost
      dsimp only [List.cons_append, List.nil_append, Option.toList]
      rw [← hde]
      refine j_ishl o dX2_visits_53 (q := 54) rfl ?_
      refine j_topi o (nI (2 * 2 ^ dpt B.length k)) (nI_shl (by omega) (by omega)) ?_
      refine j_iconst o (nI 1) dX2_visits_54 (by decide) (q := 55) rfl ?_
      refine j_isub o dX2_visits_55 (q := 56) rfl ?_
      refine j_topi o (nI (2 * 2 ^ dpt B.length k - 1)) (pk_sub (by omega)) ?_
      refine j_iand o dX2_visits_56 (q := 57) rfl ?_
      refine j_topi o (nI ((if n = 1 then ch else 1023 - ch) &&& (2 * 2 ^ dpt B.length k - 1))) (nI_and _ _) ?_
      refine j_ist6 o dX2_visits_57 rfl (hN 6 (Nat.le_of_ble_eq_true rfl)) (q := 59) rfl ?_
      refine j_ild o dX2_visits_59 rfl (q := 61) rfl ?_
      refine j_ild_n o dX2_visits_61 rfl (q := 62) rfl ?_
      refine j_ild o dX2_visits_62 rfl (q := 64) rfl ?_
      refine j_ixor o dX2_visits_64 (q := 65) rfl ?_
      refine j_topi o (nI (vsH ch sd n f ^^^ k)) (nI_xor _ _) ?_
      refine j_ild o dX2_visits_65 rfl (q := 67) rfl ?_
      refine j_iand o dX2_visits_67 (q := 68) rfl ?_
      refine j_topi o (nI ((vsH ch sd n f ^^^ k) &&& ((if n = 1 then ch else 1023 - ch) &&& (2 * 2 ^ dpt B.length k - 1)))) (nI_and _ _) ?_
      have fin : ∀ m, (m = 0 ∨ m = 1) → m = vsOne ch sd n f B.length k → J g Y [] 0 76 [some (.ref q), some (.int (nI n)), some (.int (nI f)), some (.int (nI (vsH ch sd n f))), some (.int (nI (vis ch sd n f B.length k))), some (.int (nI k)), some (.int (nI ((if n = 1 then ch else 1023 - ch) &&& (2 * 2 ^ dpt B.length k - 1))))] [.int (nI m), .int (nI (vis ch sd n f B.length k))] := by
        intro m hm e
        refine j_callSN0 o (ctX1_bit hG _ hm) dX2_visits_76 q666 wdX1_bit mdX1_bit rfl (Nat.le_of_ble_eq_true rfl) (Nat.le_of_ble_eq_true rfl) (by omega) (Nat.le_of_ble_eq_true rfl) (q := 79) rfl (fun v wd hpost => ?_)
        obtain ⟨rfl, rfl⟩ := hpost
        dsimp only [List.cons_append, List.nil_append, Option.toList]
        refine j_iadd o dX2_visits_79 (q := 80) rfl ?_
        refine j_topi o (nI (vis ch sd n f B.length (k + 1))) ((by rw [nI_add, e]; rfl)) ?_
        refine j_ist4 o dX2_visits_80 rfl (hN 4 (Nat.le_of_ble_eq_true rfl)) (q := 82) rfl ?_
        refine j_inc5 o (nI (k + 1)) dX2_visits_82 (by first | exact nI_1 _ | exact pk_m1 _ | rfl) rfl (q := 85) rfl ?_
        refine j_goto o 26 dX2_visits_85 (by decide) ?_
        exact ih (k + 1) _ (by omega)
      have hlt : (vsH ch sd n f ^^^ k) &&& ((if n = 1 then ch else 1023 - ch) &&& (2 * 2 ^ dpt B.length k - 1)) < 2 ^ 31 := by
        have : (vsH ch sd n f ^^^ k) < 2 ^ 10 := Nat.xor_lt_two_pow (n := 10) (by omega) (by omega)
        have := Nat.and_le_left (n := vsH ch sd n f ^^^ k) (m := (if n = 1 then ch else 1023 - ch) &&& (2 * 2 ^ dpt B.length k - 1))
        omega
      refine j_ifne o 75 dX2_visits_68 (by decide) (q := 71) rfl (fun c => ?_) (fun c => ?_)
      · refine j_iconst o (nI 0) dX2_visits_75 (by decide) (q := 76) rfl ?_
        exact fin 0 (Or.inl rfl) (by unfold vsOne; rw [if_neg (fun e => c (by rw [e]; rfl))])
      · refine j_iconst o (nI 1) dX2_visits_71 (by decide) (q := 72) rfl ?_
        refine j_goto o 76 dX2_visits_72 (by decide) ?_
        exact fin 1 (Or.inr rfl) (by unfold vsOne; rw [if_pos (by apply Classical.byContradiction; intro h; exact nI_n0 (by omega) hlt c)])
  have start : J g Y [] 0 19 [some (.ref q), some (.int (nI n)), some (.int (nI f)), none, none, none, none] [.int (nI (vsH ch sd n f))] := by
    refine j_ist3 o dX2_visits_19 rfl (hN 3 (Nat.le_of_ble_eq_true rfl)) (q := 20) rfl ?_
    refine j_iconst o (nI 0) dX2_visits_20 (by decide) (q := 21) rfl ?_
    refine j_ist4 o dX2_visits_21 rfl (hN 4 (Nat.le_of_ble_eq_true rfl)) (q := 23) rfl ?_
    refine j_iconst o (nI 0) dX2_visits_23 (by decide) (q := 24) rfl ?_
    refine j_ist5 o dX2_visits_24 rfl (hN 5 (Nat.le_of_ble_eq_true rfl)) (q := 26) rfl ?_
    exact loop B.length 0 none (by omega)
  rcases hn with rfl | rfl
  · refine j_ald_n o dX2_visits_0 rfl rfl (q := 1) rfl ?_
    refine j_gf o dX2_visits_1 (jb r1) kcX2 8 (Nat.le_of_ble_eq_true rfl) q307 rfl (q := 4) rfl ?_
    refine j_ild_n o dX2_visits_4 rfl (q := 5) rfl ?_
    refine j_ifeqT o 15 dX2_visits_5 (by decide) rfl ?_
    refine j_ild_n o dX2_visits_15 rfl (q := 16) rfl ?_
    refine j_callV0 o (ctX3_of hG _ (jmr hh) hc hs9 (by omega)) dX2_visits_16 q492 wdX3_of mdX3_of (jb hh) (by rfl) (by rfl) rfl (Nat.le_of_ble_eq_true rfl) (Nat.le_of_ble_eq_true rfl) (by omega) (Nat.le_of_ble_eq_true rfl) (q := 19) rfl (fun v wd hpost => ?_)
    obtain ⟨rfl, rfl⟩ := hpost
    dsimp only [List.cons_append, List.nil_append, Option.toList]
    exact start
  · refine j_ald_n o dX2_visits_0 rfl rfl (q := 1) rfl ?_
    refine j_gf o dX2_visits_1 (jb r1) kcX2 8 (Nat.le_of_ble_eq_true rfl) q307 rfl (q := 4) rfl ?_
    refine j_ild_n o dX2_visits_4 rfl (q := 5) rfl ?_
    refine j_ifeqF o (t := 15) dX2_visits_5 (by decide) (q := 8) rfl (by decide) ?_
    refine j_bipush o (nI 100) dX2_visits_8 (by decide) (q := 10) rfl ?_
    refine j_ild_n o dX2_visits_10 rfl (q := 11) rfl ?_
    refine j_imul o dX2_visits_11 (q := 12) rfl ?_
    refine j_topi o (nI (100 * f)) (pk_mul _ _) ?_
    refine j_goto o 16 dX2_visits_12 (by decide) ?_
    refine j_callV0 o (ctX3_of hG _ (jmr hh) hc hs9 (by omega)) dX2_visits_16 q492 wdX3_of mdX3_of (jb hh) (by rfl) (by rfl) rfl (Nat.le_of_ble_eq_true rfl) (Nat.le_of_ble_eq_true rfl) (by omega) (Nat.le_of_ble_eq_true rfl) (q := 19) rfl (fun v wd hpost => ?_)
    obtain ⟨rfl, rfl⟩ := hpost
    dsimp only [List.cons_append, List.nil_append, Option.toList]
    exact start

/-! SMALL KINDS: Client, Entry, Page, Hashing, the desk's static helpers -/
set_option maxRecDepth 100000
theorem ctX6_init {l : Launch} {g : jG} (hG : GS l g) (bg : va_W) (q : Nat) : KX6_init l g 1 0 [.ref q] bg [[(q, eO 6 fdX6)]] (fun v wd => v = none ∧ wd = [[(q, eO 6 [.int (nI 0), .int (nI 0)])]]) := by
  refine Ctr.of [some (.ref q)] hG (by decide +kernel) rfl (Nat.le_of_ble_eq_true rfl) (fun Y hl hN0 o r hI => ?_)
  subst hl
  have hN : ∀ i, i < 1 → i < yN Y := fun i h => by rw [hN0]; exact h
  refine j_ald_n o dX6_init_0 rfl rfl (q := 1) rfl ?_
  refine j_obj o (Nat.le_of_ble_eq_true rfl) dX6_init_1 q343 q110 q111 (Nat.le_of_ble_eq_true rfl) (q := 4) rfl ?_
  exact j_vret o r dX6_init_4 [_] _ rfl (⟨rfl, rfl⟩) (by omega)
theorem ctX6_see {l : Launch} {g : jG} (hG : GS l g) (bg : va_W) (q : Nat) (a b x y : Int32) : KX6_see l g 1 0 [.ref q, .int x, .int y] bg [[(q, eO 6 [.int a, .int b])]] (fun v wd => v = none ∧ wd = [[(q, eO 6 [.int x, .int y])]]) := by
  refine Ctr.of [some (.ref q), some (.int x), some (.int y)] hG (by decide +kernel) rfl (Nat.le_of_ble_eq_true rfl) (fun Y hl hN0 o r hI => ?_)
  subst hl
  have hN : ∀ i, i < 3 → i < yN Y := fun i h => by rw [hN0]; exact h
  refine j_ald_n o dX6_see_0 rfl rfl (q := 1) rfl ?_
  refine j_ild_n o dX6_see_1 rfl (q := 2) rfl ?_
  refine j_pf o dX6_see_2 0 0 rfl rfl kcX6 0 (Nat.le_of_ble_eq_true rfl) q344 rfl rfl rfl (Nat.le_of_ble_eq_true rfl) (q := 5) rfl ?_
  dsimp only [List.set]
  refine j_ald_n o dX6_see_5 rfl rfl (q := 6) rfl ?_
  refine j_ild_n o dX6_see_6 rfl (q := 7) rfl ?_
  refine j_pf o dX6_see_7 0 0 rfl rfl kcX6 1 (Nat.le_of_ble_eq_true rfl) q346 rfl rfl rfl (Nat.le_of_ble_eq_true rfl) (q := 10) rfl ?_
  dsimp only [List.set]
  exact j_vret o r dX6_see_10 [_] _ rfl (⟨rfl, rfl⟩) (by omega)
theorem ctX1_isIn {l : Launch} {g : jG} (hG : GS l g) (bg : va_W) (x a b : Int32) : KX1_isIn l g 1 0 [.int x, .int a, .int b] bg [] (fun v wd => v = some (.int (nI (if a ≤ x ∧ x ≤ b then 1 else 0))) ∧ wd = []) := by
  refine Ctr.of [some (.int x), some (.int a), some (.int b)] hG (by decide +kernel) rfl (Nat.le_of_ble_eq_true rfl) (fun Y hl hN0 o r hI => ?_)
  subst hl
  have hN : ∀ i, i < 3 → i < yN Y := fun i h => by rw [hN0]; exact h
  refine j_ild_n o dX1_isIn_0 rfl (q := 1) rfl ?_
  refine j_ild_n o dX1_isIn_1 rfl (q := 2) rfl ?_
  refine j_iclt o 14 dX1_isIn_2 (by decide) (q := 5) rfl (fun c => ?_) (fun c => ?_)
  · refine j_iconst o (nI 0) dX1_isIn_14 (by decide) (q := 15) rfl ?_
    exact j_ret o r dX1_isIn_15 rfl [] _ rfl (⟨by rw [if_neg (fun h => absurd c (Int32.not_lt.mpr h.1))], rfl⟩) (by omega)
  · refine j_ild_n o dX1_isIn_5 rfl (q := 6) rfl ?_
    refine j_ild_n o dX1_isIn_6 rfl (q := 7) rfl ?_
    refine j_icgt o 14 dX1_isIn_7 (by decide) (q := 10) rfl (fun c2 => ?_) (fun c2 => ?_)
    · refine j_iconst o (nI 0) dX1_isIn_14 (by decide) (q := 15) rfl ?_
      exact j_ret o r dX1_isIn_15 rfl [] _ rfl (⟨by rw [if_neg (fun h => absurd c2 (Int32.not_lt.mpr h.2))], rfl⟩) (by omega)
    · refine j_iconst o (nI 1) dX1_isIn_10 (by decide) (q := 11) rfl ?_
      refine j_goto o 15 dX1_isIn_11 (by decide) ?_
      exact j_ret o r dX1_isIn_15 rfl [] _ rfl (⟨by rw [if_pos ⟨Int32.not_lt.mp c, Int32.not_lt.mp c2⟩], rfl⟩) (by omega)
theorem ctX1_bit {l : Launch} {g : jG} (hG : GS l g) (bg : va_W) {n : Nat} (hn : n = 0 ∨ n = 1) : KX1_bit l g 1 0 [.int (nI n)] bg [] (fun v wd => v = some (.int (nI n)) ∧ wd = []) := by
  rcases hn with rfl | rfl
  · refine Ctr.of [some (.int (nI 0))] hG (by decide +kernel) rfl (Nat.le_of_ble_eq_true rfl) (fun Y hl hN0 o r hI => ?_)
    subst hl
    have hN : ∀ i, i < 1 → i < yN Y := fun i h => by rw [hN0]; exact h
    refine j_ild_n o dX1_bit_0 rfl (q := 1) rfl ?_
    refine j_ifeqT o 8 dX1_bit_1 (by decide) rfl ?_
    refine j_iconst o (nI 0) dX1_bit_8 (by decide) (q := 9) rfl ?_
    exact j_ret o r dX1_bit_9 rfl [] _ rfl (⟨rfl, rfl⟩) (by omega)
  · refine Ctr.of [some (.int (nI 1))] hG (by decide +kernel) rfl (Nat.le_of_ble_eq_true rfl) (fun Y hl hN0 o r hI => ?_)
    subst hl
    have hN : ∀ i, i < 1 → i < yN Y := fun i h => by rw [hN0]; exact h
    refine j_ild_n o dX1_bit_0 rfl (q := 1) rfl ?_
    refine j_ifeqF o (t := 8) dX1_bit_1 (by decide) (q := 4) rfl (by decide) ?_
    refine j_iconst o (nI 1) dX1_bit_4 (by decide) (q := 5) rfl ?_
    refine j_goto o 9 dX1_bit_5 (by decide) ?_
    exact j_ret o r dX1_bit_9 rfl [] _ rfl (⟨rfl, rfl⟩) (by omega)
theorem ctX1_has {l : Launch} {g : jG} (hG : GS l g) (bg : va_W) {s k : Nat} (hs : s < 2 ^ 31) (hk : k < 32) : KX1_has l g 1 0 [.int (nI s), .int (nI k)] bg [] (fun v wd => v = some (.int (nI (if s / 2 ^ k % 2 = 1 then 1 else 0))) ∧ wd = []) := by
  refine Ctr.of [some (.int (nI s)), some (.int (nI k))] hG (by decide +kernel) rfl (Nat.le_of_ble_eq_true rfl) (fun Y hl hN0 o r hI => ?_)
  subst hl
  have hN : ∀ i, i < 2 → i < yN Y := fun i h => by rw [hN0]; exact h
  refine j_ild_n o dX1_has_0 rfl (q := 1) rfl ?_
  refine j_ild_n o dX1_has_1 rfl (q := 2) rfl ?_
  refine j_ishr o dX1_has_2 (q := 3) rfl ?_
  refine j_topi o (nI (s / 2 ^ k)) (nI_shr hk hs) ?_
  refine j_iconst o (nI 1) dX1_has_3 (by decide) (q := 4) rfl ?_
  refine j_iand o dX1_has_4 (q := 5) rfl ?_
  refine j_topi o (nI (s / 2 ^ k % 2)) (nI_and1 _) ?_
  refine j_iconst o (nI 1) dX1_has_5 (by decide) (q := 6) rfl ?_
  refine j_icne o 13 dX1_has_6 (by decide) (q := 9) rfl (fun c => ?_) (fun c => ?_)
  · have c : ¬ s / 2 ^ k % 2 = 1 := fun h => c (by rw [h])
    refine j_iconst o (nI 0) dX1_has_13 (by decide) (q := 14) rfl ?_
    exact j_ret o r dX1_has_14 rfl [] _ rfl (⟨by rw [if_neg c], rfl⟩) (by omega)
  · have c : s / 2 ^ k % 2 = 1 := (nI_eq (by omega) (by omega)).mp c
    refine j_iconst o (nI 1) dX1_has_9 (by decide) (q := 10) rfl ?_
    refine j_goto o 14 dX1_has_10 (by decide) ?_
    exact j_ret o r dX1_has_14 rfl [] _ rfl (⟨by rw [if_pos c], rfl⟩) (by omega)
theorem ctX1_marks {l : Launch} {g : jG} (hG : GS l g) (bg : va_W) {h : Nat} (hh : h < 2 ^ 31) : KX1_marks l g 1 0 [.int (nI h)] bg [] (fun v wd => v = some (.int (nI (mrk h))) ∧ wd = []) := by
  have hp : ∀ x : Nat, 1 * 2 ^ (x % 16) < 2 ^ 32 := fun x => by rw [Nat.one_mul]; exact Nat.pow_lt_pow_right (by omega) (by omega)
  refine Ctr.of [some (.int (nI h))] hG (by decide +kernel) rfl (Nat.le_of_ble_eq_true rfl) (fun Y hl hN0 o r hI => ?_)
  subst hl
  have hN : ∀ i, i < 1 → i < yN Y := fun i h => by rw [hN0]; exact h
  refine j_iconst o (nI 1) dX1_marks_0 (by decide) (q := 1) rfl ?_
  refine j_ild_n o dX1_marks_1 rfl (q := 2) rfl ?_
  refine j_bipush o (nI 16) dX1_marks_2 (by decide) (q := 4) rfl ?_
  refine j_irem o dX1_marks_4 (by decide) (q := 5) rfl ?_
  refine j_topi o (nI (h % 16)) (nI_rem hh (by omega) (by omega)) ?_
  refine j_ishl o dX1_marks_5 (q := 6) rfl ?_
  refine j_topi o (nI (2 ^ (h % 16))) (by rw [nI_shl (by omega) (hp h), Nat.one_mul]) ?_
  refine j_iconst o (nI 1) dX1_marks_6 (by decide) (q := 7) rfl ?_
  refine j_ild_n o dX1_marks_7 rfl (q := 8) rfl ?_
  refine j_bipush o (nI 16) dX1_marks_8 (by decide) (q := 10) rfl ?_
  refine j_idiv o dX1_marks_10 (by decide) (q := 11) rfl ?_
  refine j_topi o (nI (h / 16)) (pk_div hh (by omega) (by omega)) ?_
  refine j_bipush o (nI 16) dX1_marks_11 (by decide) (q := 13) rfl ?_
  refine j_irem o dX1_marks_13 (by decide) (q := 14) rfl ?_
  refine j_topi o (nI (h / 16 % 16)) (nI_rem (by omega) (by omega) (by omega)) ?_
  refine j_ishl o dX1_marks_14 (q := 15) rfl ?_
  refine j_topi o (nI (2 ^ (h / 16 % 16))) (by rw [nI_shl (by omega) (hp _), Nat.one_mul]) ?_
  refine j_ior o dX1_marks_15 (q := 16) rfl ?_
  refine j_topi o (nI (mrk h)) (nI_or _ _) ?_
  exact j_ret o r dX1_marks_16 rfl [] _ rfl (⟨rfl, rfl⟩) (by omega)
theorem ctX1_add {l : Launch} {g : jG} (hG : GS l g) (bg : va_W) (d x : Int64) : KX1_add l g 1 0 [.long d, .long x] bg [] (fun v wd => v = some (.long (d * 31 + x)) ∧ wd = []) := by
  refine Ctr.of [some (.long d), none, some (.long x), none] hG (by decide +kernel) rfl (Nat.le_of_ble_eq_true rfl) (fun Y hl hN0 o r hI => ?_)
  subst hl
  have hN : ∀ i, i < 4 → i < yN Y := fun i h => by rw [hN0]; exact h
  refine j_lld_n o dX1_add_0 rfl (q := 1) rfl ?_
  refine j_ldc2 o dX1_add_1 q692 (q := 4) rfl ?_
  refine j_lmul o dX1_add_4 (q := 5) rfl ?_
  refine j_lld_n o dX1_add_5 rfl (q := 6) rfl ?_
  refine j_ladd o dX1_add_6 (q := 7) rfl ?_
  exact j_lret o r dX1_add_7 [] _ rfl (⟨rfl, rfl⟩) (by omega)
abbrev hsO (ch sd : Nat) : va_E := eO 3 [.int (nI ch), .int (nI sd)]
abbrev enO (r : Row) : va_E := eO 11 [.int (nI r.1), .int (nI r.2)]
theorem ctX3_init {l : Launch} {g : jG} (hG : GS l g) (bg : va_W) (q : Nat) (x y : Int32) : KX3_init l g 2 0 [.ref q, .int x, .int y] bg [[(q, eO 3 fdX3)]] (fun v wd => v = none ∧ wd = [[(q, eO 3 [.int x, .int y])]]) := by
  refine Ctr.of [some (.ref q), some (.int x), some (.int y)] hG (by decide +kernel) rfl (Nat.le_of_ble_eq_true rfl) (fun Y hl hN0 o r hI => ?_)
  subst hl
  have hN : ∀ i, i < 3 → i < yN Y := fun i h => by rw [hN0]; exact h
  refine j_ald_n o dX3_init_0 rfl rfl (q := 1) rfl ?_
  refine j_obj o (Nat.le_of_ble_eq_true rfl) dX3_init_1 q123 q110 q111 (Nat.le_of_ble_eq_true rfl) (q := 4) rfl ?_
  refine j_ald_n o dX3_init_4 rfl rfl (q := 5) rfl ?_
  refine j_ild_n o dX3_init_5 rfl (q := 6) rfl ?_
  refine j_pfF o dX3_init_6 (hI rfl) 0 0 rfl rfl kcX3 0 (Nat.le_of_ble_eq_true rfl) q124 rfl rfl rfl rfl (Nat.le_of_ble_eq_true rfl) (q := 9) rfl ?_
  dsimp only [List.set]
  refine j_ald_n o dX3_init_9 rfl rfl (q := 10) rfl ?_
  refine j_ild_n o dX3_init_10 rfl (q := 11) rfl ?_
  refine j_pfF o dX3_init_11 (hI rfl) 0 0 rfl rfl kcX3 1 (Nat.le_of_ble_eq_true rfl) q126 rfl rfl rfl rfl (Nat.le_of_ble_eq_true rfl) (q := 14) rfl ?_
  dsimp only [List.set]
  exact j_vret o r dX3_init_14 [_] _ rfl (⟨rfl, rfl⟩) (by omega)
theorem ctX3_of {l : Launch} {g : jG} (hG : GS l g) (bg : va_W) {hs ch sd key : Nat} (hq : (hs, hsO ch sd) ∈ bg) (hc : ch < 1024) (hs9 : sd < 10) (hk : key < 2 ^ 31) : KX3_of l g 2 0 [.ref hs, .int (nI key)] bg [] (fun v wd => v = some (.int (nI (hsh ch sd key))) ∧ wd = []) := by
  refine Ctr.of [some (.ref hs), some (.int (nI key)), none, none, none, none] hG (by decide +kernel) rfl (Nat.le_of_ble_eq_true rfl) (fun Y hl hN0 o r hI => ?_)
  subst hl
  have hN : ∀ i, i < 6 → i < yN Y := fun i h => by rw [hN0]; exact h
  have loop : ∀ d k, k + d = 10 → J g Y [] 0 16 [some (.ref hs), some (.int (nI key)), some (.int (nI (hsi ch (key / 100, key % 100, 0) k).1)), some (.int (nI (hsi ch (key / 100, key % 100, 0) k).2.1)), some (.int (nI (hsi ch (key / 100, key % 100, 0) k).2.2)), some (.int (nI k))] [] := by
    intro d
    induction d with
    | zero =>
      intro k hk9
      have hk9 : k = 10 := hk9
      subst hk9
      refine j_ild o dX3_of_16 rfl (q := 18) rfl ?_
      refine j_bipush o (nI 10) dX3_of_18 (by decide) (q := 20) rfl ?_
      refine j_icgeT o 74 dX3_of_20 (by decide) (by decide) ?_
      refine j_ild o dX3_of_74 rfl (q := 76) rfl ?_
      refine j_sipush o (nI 397) dX3_of_76 (by decide) (q := 79) rfl ?_
      refine j_ald_n o dX3_of_79 rfl rfl (q := 80) rfl ?_
      refine j_gf o dX3_of_80 (jb hq) kcX3 1 (Nat.le_of_ble_eq_true rfl) q126 rfl (q := 83) rfl ?_
      refine j_imul o dX3_of_83 (q := 84) rfl ?_
      refine j_topi o (nI (397 * sd)) (pk_mul _ _) ?_
      refine j_sipush o (nI 1024) dX3_of_84 (by decide) (q := 87) rfl ?_
      refine j_irem o dX3_of_87 (by decide) (q := 88) rfl ?_
      refine j_topi o (nI (397 * sd % 1024)) (nI_rem (by omega) (by omega) (by omega)) ?_
      refine j_ixor o dX3_of_88 (q := 89) rfl ?_
      refine j_topi o (nI (hsh ch sd key)) (nI_xor _ _) ?_
      exact j_ret o r dX3_of_89 rfl [] _ rfl (⟨rfl, rfl⟩) (by omega)
    | succ d ih =>
      intro k hk9
      have hl1 := hsi_le ch (key / 100, key % 100, 0) k
      have e : hsi ch (key / 100, key % 100, 0) (k + 1) = hst ch k (hsi ch (key / 100, key % 100, 0) k) := rfl
      have ih := ih (k + 1) (by omega)
      rw [e] at ih
      generalize hsi ch (key / 100, key % 100, 0) k = s at ih hl1 ⊢
      obtain ⟨hi, lo, md⟩ := s
      dsimp only at hl1 ih ⊢
      have hp : 2 ^ k ≤ 2 ^ 10 := Nat.pow_le_pow_right (by omega) (by omega)
      have hb : ∀ x : Nat, x % 2 * 2 ^ k < 2 ^ 32 := fun x => by
        have : x % 2 * 2 ^ k ≤ 1 * 2 ^ k := Nat.mul_le_mul_right _ (by omega)
        omega
      refine j_ild o dX3_of_16 rfl (q := 18) rfl ?_
      refine j_bipush o (nI 10) dX3_of_18 (by decide) (q := 20) rfl ?_
      refine j_icgeF o (t := 74) dX3_of_20 (by decide) (q := 23) rfl (nI_ge (a := k) (b := 10) (by omega) (by omega)) ?_
      refine j_ald_n o dX3_of_23 rfl rfl (q := 24) rfl ?_
      refine j_gf o dX3_of_24 (jb hq) kcX3 0 (Nat.le_of_ble_eq_true rfl) q124 rfl (q := 27) rfl ?_
      refine j_ild o dX3_of_27 rfl (q := 29) rfl ?_
      refine j_callSN0 o (ctX1_has hG _ (s := ch) (k := k) (by omega) (by omega)) dX3_of_29 q496 wdX1_has mdX1_has rfl (Nat.le_of_ble_eq_true rfl) (Nat.le_of_ble_eq_true rfl) (by omega) (Nat.le_of_ble_eq_true rfl) (q := 32) rfl (fun v wd hpost => ?_)
      obtain ⟨rfl, rfl⟩ := hpost
      dsimp only [List.cons_append, List.nil_append, Option.toList]
      by_cases hbit : ch / 2 ^ k % 2 = 1
      · rw [if_pos hbit]
        refine j_ifeqF o (t := 53) dX3_of_32 (by decide) (q := 35) rfl (by decide) ?_
        refine j_ild o dX3_of_35 rfl (q := 37) rfl ?_
        refine j_ild_n o dX3_of_37 rfl (q := 38) rfl ?_
        refine j_iconst o (nI 1) dX3_of_38 (by decide) (q := 39) rfl ?_
        refine j_iand o dX3_of_39 (q := 40) rfl ?_
        refine j_topi o (nI (hi % 2)) (nI_and1 _) ?_
        refine j_ild o dX3_of_40 rfl (q := 42) rfl ?_
        refine j_ishl o dX3_of_42 (q := 43) rfl ?_
        refine j_topi o (nI (hi % 2 * 2 ^ k)) (nI_shl (by omega) (hb _)) ?_
        refine j_ior o dX3_of_43 (q := 44) rfl ?_
        refine j_topi o (nI (md ||| hi % 2 * 2 ^ k)) (nI_or _ _) ?_
        refine j_ist4 o dX3_of_44 rfl (hN 4 (Nat.le_of_ble_eq_true rfl)) (q := 46) rfl ?_
        refine j_ild_n o dX3_of_46 rfl (q := 47) rfl ?_
        refine j_iconst o (nI 1) dX3_of_47 (by decide) (q := 48) rfl ?_
        refine j_ishr o dX3_of_48 (q := 49) rfl ?_
        refine j_topi o (nI (hi / 2)) (by rw [show (nI 1 : Int32) = nI 1 from rfl]; exact nI_shr (k := 1) (by omega) (by omega)) ?_
        refine j_ist2 o dX3_of_49 rfl (hN 2 (Nat.le_of_ble_eq_true rfl)) (q := 50) rfl ?_
        refine j_goto o 68 dX3_of_50 (by decide) ?_
        refine j_inc5 o (nI (k + 1)) dX3_of_68 (by first | exact nI_1 _ | exact pk_m1 _ | rfl) rfl (q := 71) rfl ?_
        refine j_goto o 16 dX3_of_71 (by decide) ?_
        have e2 : hst ch k (hi, lo, md) = (hi / 2, lo, md ||| hi % 2 * 2 ^ k) := by unfold hst; rw [if_pos hbit]
        rw [e2] at ih
        exact ih
      · rw [if_neg hbit]
        refine j_ifeqT o 53 dX3_of_32 (by decide) rfl ?_
        refine j_ild o dX3_of_53 rfl (q := 55) rfl ?_
        refine j_ild_n o dX3_of_55 rfl (q := 56) rfl ?_
        refine j_iconst o (nI 1) dX3_of_56 (by decide) (q := 57) rfl ?_
        refine j_iand o dX3_of_57 (q := 58) rfl ?_
        refine j_topi o (nI (lo % 2)) (nI_and1 _) ?_
        refine j_ild o dX3_of_58 rfl (q := 60) rfl ?_
        refine j_ishl o dX3_of_60 (q := 61) rfl ?_
        refine j_topi o (nI (lo % 2 * 2 ^ k)) (nI_shl (by omega) (hb _)) ?_
        refine j_ior o dX3_of_61 (q := 62) rfl ?_
        refine j_topi o (nI (md ||| lo % 2 * 2 ^ k)) (nI_or _ _) ?_
        refine j_ist4 o dX3_of_62 rfl (hN 4 (Nat.le_of_ble_eq_true rfl)) (q := 64) rfl ?_
        refine j_ild_n o dX3_of_64 rfl (q := 65) rfl ?_
        refine j_iconst o (nI 1) dX3_of_65 (by decide) (q := 66) rfl ?_
        refine j_ishr o dX3_of_66 (q := 67) rfl ?_
        refine j_topi o (nI (lo / 2)) (nI_shr (k := 1) (by omega) (by omega)) ?_
        refine j_ist3 o dX3_of_67 rfl (hN 3 (Nat.le_of_ble_eq_true rfl)) (q := 68) rfl ?_
        refine j_inc5 o (nI (k + 1)) dX3_of_68 (by first | exact nI_1 _ | exact pk_m1 _ | rfl) rfl (q := 71) rfl ?_
        refine j_goto o 16 dX3_of_71 (by decide) ?_
        have e2 : hst ch k (hi, lo, md) = (hi, lo / 2, md ||| lo % 2 * 2 ^ k) := by unfold hst; rw [if_neg hbit]
        rw [e2] at ih
        exact ih
  refine j_ild_n o dX3_of_0 rfl (q := 1) rfl ?_
  refine j_bipush o (nI 100) dX3_of_1 (by decide) (q := 3) rfl ?_
  refine j_idiv o dX3_of_3 (by decide) (q := 4) rfl ?_
  refine j_topi o (nI (key / 100)) (pk_div hk (by omega) (by omega)) ?_
  refine j_ist2 o dX3_of_4 rfl (hN 2 (Nat.le_of_ble_eq_true rfl)) (q := 5) rfl ?_
  refine j_ild_n o dX3_of_5 rfl (q := 6) rfl ?_
  refine j_bipush o (nI 100) dX3_of_6 (by decide) (q := 8) rfl ?_
  refine j_irem o dX3_of_8 (by decide) (q := 9) rfl ?_
  refine j_topi o (nI (key % 100)) (nI_rem hk (by omega) (by omega)) ?_
  refine j_ist3 o dX3_of_9 rfl (hN 3 (Nat.le_of_ble_eq_true rfl)) (q := 10) rfl ?_
  refine j_iconst o (nI 0) dX3_of_10 (by decide) (q := 11) rfl ?_
  refine j_ist4 o dX3_of_11 rfl (hN 4 (Nat.le_of_ble_eq_true rfl)) (q := 13) rfl ?_
  refine j_iconst o (nI 0) dX3_of_13 (by decide) (q := 14) rfl ?_
  refine j_ist5 o dX3_of_14 rfl (hN 5 (Nat.le_of_ble_eq_true rfl)) (q := 16) rfl ?_
  exact loop 10 0 rfl
theorem ctX3_digits {l : Launch} {g : jG} (hG : GS l g) (bg : va_W) {hs ch sd n : Nat} (hq : (hs, hsO ch sd) ∈ bg) (hc : ch < 1024) (hn : n = 0 ∨ n = 1) : KX3_digits l g 1 0 [.ref hs, .int (nI n)] bg [] (fun v wd => v = some (.int (nI (if n = 1 then ch else 1023 - ch))) ∧ wd = []) := by
  rcases hn with rfl | rfl
  · refine Ctr.of [some (.ref hs), some (.int (nI 0))] hG (by decide +kernel) rfl (Nat.le_of_ble_eq_true rfl) (fun Y hl hN0 o r hI => ?_)
    subst hl
    have hN : ∀ i, i < 2 → i < yN Y := fun i h => by rw [hN0]; exact h
    refine j_ild_n o dX3_digits_0 rfl (q := 1) rfl ?_
    refine j_ifeqT o 11 dX3_digits_1 (by decide) rfl ?_
    refine j_sipush o (nI 1023) dX3_digits_11 (by decide) (q := 14) rfl ?_
    refine j_ald_n o dX3_digits_14 rfl rfl (q := 15) rfl ?_
    refine j_gf o dX3_digits_15 (jb hq) kcX3 0 (Nat.le_of_ble_eq_true rfl) q124 rfl (q := 18) rfl ?_
    refine j_isub o dX3_digits_18 (q := 19) rfl ?_
    refine j_topi o (nI (1023 - ch)) (pk_sub (by omega)) ?_
    exact j_ret o r dX3_digits_19 rfl [] _ rfl (⟨rfl, rfl⟩) (by omega)
  · refine Ctr.of [some (.ref hs), some (.int (nI 1))] hG (by decide +kernel) rfl (Nat.le_of_ble_eq_true rfl) (fun Y hl hN0 o r hI => ?_)
    subst hl
    have hN : ∀ i, i < 2 → i < yN Y := fun i h => by rw [hN0]; exact h
    refine j_ild_n o dX3_digits_0 rfl (q := 1) rfl ?_
    refine j_ifeqF o (t := 11) dX3_digits_1 (by decide) (q := 4) rfl (by decide) ?_
    refine j_ald_n o dX3_digits_4 rfl rfl (q := 5) rfl ?_
    refine j_gf o dX3_digits_5 (jb hq) kcX3 0 (Nat.le_of_ble_eq_true rfl) q124 rfl (q := 8) rfl ?_
    refine j_goto o 19 dX3_digits_8 (by decide) ?_
    exact j_ret o r dX3_digits_19 rfl [] _ rfl (⟨rfl, rfl⟩) (by omega)
theorem ctX3_turned {l : Launch} {g : jG} (hG : GS l g) (bg : va_W) {hs ch sd key : Nat} (hq : (hs, hsO ch sd) ∈ bg) (hc : ch < 1024) (hs9 : sd < 10) (hk : key < 2 ^ 31) : KX3_turned l g 3 0 [.ref hs, .int (nI key)] bg [] (fun v wd => v = some (.int (nI (trn (hsh ch sd key) 10))) ∧ wd = []) := by
  refine Ctr.of [some (.ref hs), some (.int (nI key)), none, none, none] hG (by decide +kernel) rfl (Nat.le_of_ble_eq_true rfl) (fun Y hl hN0 o r hI => ?_)
  subst hl
  have hN : ∀ i, i < 5 → i < yN Y := fun i h => by rw [hN0]; exact h
  have hl9 := hsh_lt ch sd key
  generalize hh : hsh ch sd key = h at hl9
  have loop : ∀ d k, k + d = 10 → J g Y [] 0 11 [some (.ref hs), some (.int (nI key)), some (.int (nI (h / 2 ^ k))), some (.int (nI (trn h k))), some (.int (nI k))] [] := by
    intro d
    induction d with
    | zero =>
      intro k hk9
      have hk9 : k = 10 := hk9
      subst hk9
      refine j_ild o dX3_turned_11 rfl (q := 13) rfl ?_
      refine j_bipush o (nI 10) dX3_turned_13 (by decide) (q := 15) rfl ?_
      refine j_icgeT o 36 dX3_turned_15 (by decide) (by decide) ?_
      refine j_ild_n o dX3_turned_36 rfl (q := 37) rfl ?_
      exact j_ret o r dX3_turned_37 rfl [] _ rfl (⟨by rw [hh], rfl⟩) (by omega)
    | succ d ih =>
      intro k hk9
      have hp : h / 2 ^ k ≤ h := Nat.div_le_self _ _
      refine j_ild o dX3_turned_11 rfl (q := 13) rfl ?_
      refine j_bipush o (nI 10) dX3_turned_13 (by decide) (q := 15) rfl ?_
      refine j_icgeF o (t := 36) dX3_turned_15 (by decide) (q := 18) rfl (nI_ge (a := k) (b := 10) (by omega) (by omega)) ?_
      refine j_iconst o (nI 2) dX3_turned_18 (by decide) (q := 19) rfl ?_
      refine j_ild_n o dX3_turned_19 rfl (q := 20) rfl ?_
      refine j_imul o dX3_turned_20 (q := 21) rfl ?_
      refine j_topi o (nI (2 * trn h k)) (pk_mul _ _) ?_
      refine j_ild_n o dX3_turned_21 rfl (q := 22) rfl ?_
      refine j_iconst o (nI 2) dX3_turned_22 (by decide) (q := 23) rfl ?_
      refine j_irem o dX3_turned_23 (by decide) (q := 24) rfl ?_
      refine j_topi o (nI (h / 2 ^ k % 2)) (nI_rem (by omega) (by omega) (by omega)) ?_
      refine j_iadd o dX3_turned_24 (q := 25) rfl ?_
      refine j_topi o (nI (trn h (k + 1))) (nI_add _ _) ?_
      refine j_ist3 o dX3_turned_25 rfl (hN 3 (Nat.le_of_ble_eq_true rfl)) (q := 26) rfl ?_
      refine j_ild_n o dX3_turned_26 rfl (q := 27) rfl ?_
      refine j_iconst o (nI 2) dX3_turned_27 (by decide) (q := 28) rfl ?_
      refine j_idiv o dX3_turned_28 (by decide) (q := 29) rfl ?_
      refine j_topi o (nI (h / 2 ^ (k + 1))) (by rw [pk_div (by omega) (by omega) (by omega), Nat.pow_succ, Nat.div_div_eq_div_mul]) ?_
      refine j_ist2 o dX3_turned_29 rfl (hN 2 (Nat.le_of_ble_eq_true rfl)) (q := 30) rfl ?_
      refine j_inc4 o (nI (k + 1)) dX3_turned_30 (by first | exact nI_1 _ | exact pk_m1 _ | rfl) rfl (q := 33) rfl ?_
      refine j_goto o 11 dX3_turned_33 (by decide) ?_
      exact ih (k + 1) (by omega)
  refine j_ald_n o dX3_turned_0 rfl rfl (q := 1) rfl ?_
  refine j_ild_n o dX3_turned_1 rfl (q := 2) rfl ?_
  refine j_callV0 o (ctX3_of hG _ (jmr hq) hc hs9 hk) dX3_turned_2 q1264 wdX3_of mdX3_of (jb hq) (by rfl) (by rfl) rfl (Nat.le_of_ble_eq_true rfl) (Nat.le_of_ble_eq_true rfl) (by omega) (Nat.le_of_ble_eq_true rfl) (q := 5) rfl (fun v wd hpost => ?_)
  obtain ⟨rfl, rfl⟩ := hpost
  dsimp only [List.cons_append, List.nil_append, Option.toList]
  rw [hh]
  refine j_ist2 o dX3_turned_5 rfl (hN 2 (Nat.le_of_ble_eq_true rfl)) (q := 6) rfl ?_
  refine j_iconst o (nI 0) dX3_turned_6 (by decide) (q := 7) rfl ?_
  refine j_ist3 o dX3_turned_7 rfl (hN 3 (Nat.le_of_ble_eq_true rfl)) (q := 8) rfl ?_
  refine j_iconst o (nI 0) dX3_turned_8 (by decide) (q := 9) rfl ?_
  refine j_ist4 o dX3_turned_9 rfl (hN 4 (Nat.le_of_ble_eq_true rfl)) (q := 11) rfl ?_
  have h0 := loop 10 0 rfl
  rw [Nat.pow_zero, Nat.div_one] at h0
  exact h0
/-- the order of all -/
def ahd (ch sd a b : Nat) : Prop := trn (hsh ch sd a) 10 < trn (hsh ch sd b) 10 ∨ (trn (hsh ch sd a) 10 = trn (hsh ch sd b) 10 ∧ a < b)
theorem ctX3_isAhead {l : Launch} {g : jG} (hG : GS l g) (bg : va_W) {hs ch sd a b : Nat} (hq : (hs, hsO ch sd) ∈ bg) (hc : ch < 1024) (hs9 : sd < 10) (ha : a < 2 ^ 31) (hb : b < 2 ^ 31) : KX3_isAhead l g 4 0 [.ref hs, .int (nI a), .int (nI b)] bg [] (fun v wd => ∃ n, v = some (.int (nI n)) ∧ (n = 0 ∨ n = 1) ∧ (n = 1 ↔ ahd ch sd a b) ∧ wd = []) := by
  refine Ctr.of [some (.ref hs), some (.int (nI a)), some (.int (nI b)), none, none] hG (by decide +kernel) rfl (Nat.le_of_ble_eq_true rfl) (fun Y hl hN0 o r hI => ?_)
  subst hl
  have hN : ∀ i, i < 5 → i < yN Y := fun i h => by rw [hN0]; exact h
  have h1 := trn_lt (hsh ch sd a) 10
  have h2 := trn_lt (hsh ch sd b) 10
  refine j_ald_n o dX3_isAhead_0 rfl rfl (q := 1) rfl ?_
  refine j_ild_n o dX3_isAhead_1 rfl (q := 2) rfl ?_
  refine j_callV0 o (ctX3_turned hG _ (jmr hq) hc hs9 ha) dX3_isAhead_2 q1260 wdX3_turned mdX3_turned (jb hq) (by rfl) (by rfl) rfl (Nat.le_of_ble_eq_true rfl) (Nat.le_of_ble_eq_true rfl) (by omega) (Nat.le_of_ble_eq_true rfl) (q := 5) rfl (fun v wd hpost => ?_)
  obtain ⟨rfl, rfl⟩ := hpost
  dsimp only [List.cons_append, List.nil_append, Option.toList]
  refine j_ist3 o dX3_isAhead_5 rfl (hN 3 (Nat.le_of_ble_eq_true rfl)) (q := 6) rfl ?_
  refine j_ald_n o dX3_isAhead_6 rfl rfl (q := 7) rfl ?_
  refine j_ild_n o dX3_isAhead_7 rfl (q := 8) rfl ?_
  refine j_callV0 o (ctX3_turned hG _ (jmr hq) hc hs9 hb) dX3_isAhead_8 q1260 wdX3_turned mdX3_turned (jb hq) (by rfl) (by rfl) rfl (Nat.le_of_ble_eq_true rfl) (Nat.le_of_ble_eq_true rfl) (by omega) (Nat.le_of_ble_eq_true rfl) (q := 11) rfl (fun v wd hpost => ?_)
  obtain ⟨rfl, rfl⟩ := hpost
  dsimp only [List.cons_append, List.nil_append, Option.toList]
  refine j_ist4 o dX3_isAhead_11 rfl (hN 4 (Nat.le_of_ble_eq_true rfl)) (q := 13) rfl ?_
  refine j_ild_n o dX3_isAhead_13 rfl (q := 14) rfl ?_
  refine j_ild o dX3_isAhead_14 rfl (q := 16) rfl ?_
  refine j_iclt o 30 dX3_isAhead_16 (by decide) (q := 19) rfl (fun c => ?_) (fun c => ?_)
  · rw [nI_ltI (by omega) (by omega)] at c
    refine j_iconst o (nI 1) dX3_isAhead_30 (by decide) (q := 31) rfl ?_
    refine j_goto o 35 dX3_isAhead_31 (by decide) ?_
    exact j_ret o r dX3_isAhead_35 rfl [] _ rfl (⟨1, rfl, Or.inr rfl, ⟨fun _ => Or.inl c, fun _ => rfl⟩, rfl⟩) (by omega)
  · rw [nI_ltI (by omega) (by omega)] at c
    refine j_ild_n o dX3_isAhead_19 rfl (q := 20) rfl ?_
    refine j_ild o dX3_isAhead_20 rfl (q := 22) rfl ?_
    refine j_icne o 34 dX3_isAhead_22 (by decide) (q := 25) rfl (fun c2 => ?_) (fun c2 => ?_)
    · have c2 : ¬ trn (hsh ch sd a) 10 = trn (hsh ch sd b) 10 := fun h => c2 (by rw [h])
      refine j_iconst o (nI 0) dX3_isAhead_34 (by decide) (q := 35) rfl ?_
      exact j_ret o r dX3_isAhead_35 rfl [] _ rfl (⟨0, rfl, Or.inl rfl, ⟨fun h => by omega, fun h => by rcases h with h | h <;> omega⟩, rfl⟩) (by omega)
    · rw [nI_eq (by omega) (by omega)] at c2
      refine j_ild_n o dX3_isAhead_25 rfl (q := 26) rfl ?_
      refine j_ild_n o dX3_isAhead_26 rfl (q := 27) rfl ?_
      refine j_icge o 34 dX3_isAhead_27 (by decide) (q := 30) rfl (fun c3 => ?_) (fun c3 => ?_)
      · rw [nI_leI (by omega) (by omega)] at c3
        refine j_iconst o (nI 0) dX3_isAhead_34 (by decide) (q := 35) rfl ?_
        exact j_ret o r dX3_isAhead_35 rfl [] _ rfl (⟨0, rfl, Or.inl rfl, ⟨fun h => by omega, fun h => by rcases h with h | h <;> omega⟩, rfl⟩) (by omega)
      · rw [nI_leI (by omega) (by omega)] at c3
        refine j_iconst o (nI 1) dX3_isAhead_30 (by decide) (q := 31) rfl ?_
        refine j_goto o 35 dX3_isAhead_31 (by decide) ?_
        exact j_ret o r dX3_isAhead_35 rfl [] _ rfl (⟨1, rfl, Or.inr rfl, ⟨fun _ => Or.inr ⟨c2, by omega⟩, fun _ => rfl⟩, rfl⟩) (by omega)
theorem ctX11_init {l : Launch} {g : jG} (hG : GS l g) (bg : va_W) (q : Nat) (x y : Int32) : KX11_init l g 2 0 [.ref q, .int x, .int y] bg [[(q, eO 11 fdX11)]] (fun v wd => v = none ∧ wd = [[(q, eO 11 [.int x, .int y])]]) := by
  refine Ctr.of [some (.ref q), some (.int x), some (.int y)] hG (by decide +kernel) rfl (Nat.le_of_ble_eq_true rfl) (fun Y hl hN0 o r hI => ?_)
  subst hl
  have hN : ∀ i, i < 3 → i < yN Y := fun i h => by rw [hN0]; exact h
  refine j_ald_n o dX11_init_0 rfl rfl (q := 1) rfl ?_
  refine j_obj o (Nat.le_of_ble_eq_true rfl) dX11_init_1 q445 q110 q111 (Nat.le_of_ble_eq_true rfl) (q := 4) rfl ?_
  refine j_ald_n o dX11_init_4 rfl rfl (q := 5) rfl ?_
  refine j_ild_n o dX11_init_5 rfl (q := 6) rfl ?_
  refine j_pfF o dX11_init_6 (hI rfl) 0 0 rfl rfl kcX11 0 (Nat.le_of_ble_eq_true rfl) q446 rfl rfl rfl rfl (Nat.le_of_ble_eq_true rfl) (q := 9) rfl ?_
  dsimp only [List.set]
  refine j_ald_n o dX11_init_9 rfl rfl (q := 10) rfl ?_
  refine j_ild_n o dX11_init_10 rfl (q := 11) rfl ?_
  refine j_pf o dX11_init_11 0 0 rfl rfl kcX11 1 (Nat.le_of_ble_eq_true rfl) q449 rfl rfl rfl (Nat.le_of_ble_eq_true rfl) (q := 14) rfl ?_
  dsimp only [List.set]
  exact j_vret o r dX11_init_14 [_] _ rfl (⟨rfl, rfl⟩) (by omega)
theorem ctX11_copy {l : Launch} {g : jG} (hG : GS l g) (bg : va_W) {e : Nat} {r9 : Row} (he : (e, enO r9) ∈ bg) : KX11_copy l g 3 1 [.ref e] bg [] (fun v wd => ∃ a, v = some (.ref a) ∧ jB g ≤ a ∧ wd = [[(a, enO r9)]]) := by
  refine Ctr.of [some (.ref e)] hG (by decide +kernel) rfl (Nat.le_of_ble_eq_true rfl) (fun Y hl hN0 o r hI => ?_)
  subst hl
  have hN : ∀ i, i < 1 → i < yN Y := fun i h => by rw [hN0]; exact h
  refine j_new o (fs := fdX11) 1 dX11_copy_0 kcX11 q440 q441 q93 dfX11 (by omega) (by decide) (q := 3) rfl (fun a hb_a => ?_)
  refine j_dup o dX11_copy_3 rfl (q := 4) rfl ?_
  refine j_ald_n o dX11_copy_4 rfl rfl (q := 5) rfl ?_
  refine j_gf o dX11_copy_5 (jb he) kcX11 0 (Nat.le_of_ble_eq_true rfl) q446 rfl (q := 8) rfl ?_
  refine j_ald_n o dX11_copy_8 rfl rfl (q := 9) rfl ?_
  refine j_gf o dX11_copy_9 (jb he) kcX11 1 (Nat.le_of_ble_eq_true rfl) q449 rfl (q := 12) rfl ?_
  refine j_callI1 o (ctX11_init hG _ a _ _) dX11_copy_12 q442 wdX11_init mdX11_init rfl rfl (Nat.le_of_ble_eq_true rfl) (Nat.le_of_ble_eq_true rfl) (by omega) (Nat.le_of_ble_eq_true rfl) (q := 15) rfl (fun v wd hpost => ?_)
  obtain ⟨rfl, rfl⟩ := hpost
  dsimp only [List.cons_append, List.nil_append, Option.toList]
  exact j_aret o r dX11_copy_15 (by first | exact Or.inl ⟨_, rfl⟩ | exact Or.inr ⟨_, rfl⟩) rfl [_] _ rfl (⟨a, rfl, hb_a, rfl⟩) (by omega)
theorem ctX11_isOf {l : Launch} {g : jG} (hG : GS l g) (bg : va_W) {e n f : Nat} {r9 : Row} (he : (e, enO r9) ∈ bg) (hk : r9.1 < 2 ^ 31) (hf : f < 2 ^ 31) (hn : n = 0 ∨ n = 1) : KX11_isOf l g 1 0 [.ref e, .int (nI n), .int (nI f)] bg [] (fun v wd => v = some (.int (nI (if (if n = 1 then r9.1 / 100 else r9.1 % 100) = f then 1 else 0))) ∧ wd = []) := by
  have fin : ∀ (Y : jY) (x : Nat), x < 2 ^ 31 → yN Y = 3 → ∀ (o : jOk g Y bg yX11_isOf.cls cX11_isOf 1 0) (r : jRet g Y (some .boolean) [] 0 (fun v wd => v = some (.int (nI (if x = f then 1 else 0))) ∧ wd = [])), J g Y [] 0 21 [some (.ref e), some (.int (nI n)), some (.int (nI f))] [.int (nI x)] := by
    intro Y x hx hN0 o r
    refine j_ild_n o dX11_isOf_21 rfl (q := 22) rfl ?_
    refine j_icne o 29 dX11_isOf_22 (by decide) (q := 25) rfl (fun c => ?_) (fun c => ?_)
    · have c : ¬ x = f := fun h => c (by rw [h])
      refine j_iconst o (nI 0) dX11_isOf_29 (by decide) (q := 30) rfl ?_
      exact j_ret o r dX11_isOf_30 rfl [] _ rfl (⟨by rw [if_neg c], rfl⟩) (by omega)
    · have c : x = f := (nI_eq hx hf).mp c
      refine j_iconst o (nI 1) dX11_isOf_25 (by decide) (q := 26) rfl ?_
      refine j_goto o 30 dX11_isOf_26 (by decide) ?_
      exact j_ret o r dX11_isOf_30 rfl [] _ rfl (⟨by rw [if_pos c], rfl⟩) (by omega)
  rcases hn with rfl | rfl
  · refine Ctr.of [some (.ref e), some (.int (nI 0)), some (.int (nI f))] hG (by decide +kernel) rfl (Nat.le_of_ble_eq_true rfl) (fun Y hl hN0 o r hI => ?_)
    subst hl
    have hN : ∀ i, i < 3 → i < yN Y := fun i h => by rw [hN0]; exact h
    refine j_ild_n o dX11_isOf_0 rfl (q := 1) rfl ?_
    refine j_ifeqT o 14 dX11_isOf_1 (by decide) rfl ?_
    refine j_ald_n o dX11_isOf_14 rfl rfl (q := 15) rfl ?_
    refine j_gf o dX11_isOf_15 (jb he) kcX11 0 (Nat.le_of_ble_eq_true rfl) q446 rfl (q := 18) rfl ?_
    refine j_bipush o (nI 100) dX11_isOf_18 (by decide) (q := 20) rfl ?_
    refine j_irem o dX11_isOf_20 (by decide) (q := 21) rfl ?_
    refine j_topi o (nI (r9.1 % 100)) (nI_rem hk (by omega) (by omega)) ?_
    exact fin Y _ (by omega) hN0 o r
  · refine Ctr.of [some (.ref e), some (.int (nI 1)), some (.int (nI f))] hG (by decide +kernel) rfl (Nat.le_of_ble_eq_true rfl) (fun Y hl hN0 o r hI => ?_)
    subst hl
    have hN : ∀ i, i < 3 → i < yN Y := fun i h => by rw [hN0]; exact h
    refine j_ild_n o dX11_isOf_0 rfl (q := 1) rfl ?_
    refine j_ifeqF o (t := 14) dX11_isOf_1 (by decide) (q := 4) rfl (by decide) ?_
    refine j_ald_n o dX11_isOf_4 rfl rfl (q := 5) rfl ?_
    refine j_gf o dX11_isOf_5 (jb he) kcX11 0 (Nat.le_of_ble_eq_true rfl) q446 rfl (q := 8) rfl ?_
    refine j_bipush o (nI 100) dX11_isOf_8 (by decide) (q := 10) rfl ?_
    refine j_idiv o dX11_isOf_10 (by decide) (q := 11) rfl ?_
    refine j_topi o (nI (r9.1 / 100)) (pk_div hk (by omega) (by omega)) ?_
    refine j_goto o 21 dX11_isOf_11 (by decide) ?_
    exact fin Y _ (by omega) hN0 o r
abbrev pgO (n rl : Nat) : va_E := eO 5 [.int (nI n), .ref rl]
theorem ctX5_init {l : Launch} {g : jG} (hG : GS l g) (bg : va_W) (p n : Nat) : KX5_init l g 4 1 [.ref p, .int (nI n)] bg [[(p, eO 5 fdX5)]] (fun v wd => v = none ∧ ∃ rl wl, wd = [(p, pgO n rl) :: wl] ∧ AL g rl [] wl) := by
  refine Ctr.of [some (.ref p), some (.int (nI n))] hG (by decide +kernel) rfl (Nat.le_of_ble_eq_true rfl) (fun Y hl hN0 o r hI => ?_)
  subst hl
  have hN : ∀ i, i < 2 → i < yN Y := fun i h => by rw [hN0]; exact h
  refine j_ald_n o dX5_init_0 rfl rfl (q := 1) rfl ?_
  refine j_obj o (Nat.le_of_ble_eq_true rfl) dX5_init_1 q203 q110 q111 (Nat.le_of_ble_eq_true rfl) (q := 4) rfl ?_
  refine j_ald_n o dX5_init_4 rfl rfl (q := 5) rfl ?_
  refine j_new o (fs := fdJ2) 1 dX5_init_5 kcJ2 q204 q134 q69 dfJ2 (by omega) (by decide) (q := 8) rfl (fun rl hb_rl => ?_)
  refine j_dup o dX5_init_8 rfl (q := 9) rfl ?_
  refine j_callI1 o (ctJ2_init hG _ rl) dX5_init_9 q205 wdJ2_init mdJ2_init rfl rfl (Nat.le_of_ble_eq_true rfl) (Nat.le_of_ble_eq_true rfl) (by omega) (Nat.le_of_ble_eq_true rfl) (q := 12) rfl (fun v wd hpost => ?_)
  obtain ⟨rfl, wl, rfl, hA⟩ := hpost
  dsimp only [List.cons_append, List.nil_append, Option.toList]
  refine j_pfF o dX5_init_12 (hI rfl) 1 0 rfl rfl kcX5 1 (Nat.le_of_ble_eq_true rfl) q209 rfl rfl rfl rfl (Nat.le_of_ble_eq_true rfl) (q := 15) rfl ?_
  dsimp only [List.set]
  refine j_ald_n o dX5_init_15 rfl rfl (q := 16) rfl ?_
  refine j_ild_n o dX5_init_16 rfl (q := 17) rfl ?_
  refine j_pfF o dX5_init_17 (hI rfl) 1 0 rfl rfl kcX5 0 (Nat.le_of_ble_eq_true rfl) q206 rfl rfl rfl rfl (Nat.le_of_ble_eq_true rfl) (q := 20) rfl ?_
  dsimp only [List.set]
  refine j_mv1 ?_
  refine j_mg [_, _] _ rfl ?_
  dsimp only [jflat, List.cons_append, List.nil_append]
  exact j_vret o r dX5_init_20 [_] _ rfl (⟨rfl, rl, wl, rfl, hA⟩) (by omega)
theorem ctX5_last {l : Launch} {g : jG} (hG : GS l g) (bg : va_W) {p n rl e : Nat} {es : List Nat} {r9 : Row} (hp : (p, pgO n rl) ∈ bg) (hA : ALR g bg rl es) (he : es[es.length - 1]? = some e) (hr9 : (e, enO r9) ∈ bg) : KX5_last l g 4 0 [.ref p] bg [] (fun v wd => v = some (.ref e) ∧ wd = []) := by
  obtain ⟨m, b, hq, h0, h⟩ := id hA
  have h1 : es.length - 1 < es.length := (List.getElem?_eq_some_iff.mp he).1
  refine Ctr.of [some (.ref p)] hG (by decide +kernel) rfl (Nat.le_of_ble_eq_true rfl) (fun Y hl hN0 o r hI => ?_)
  subst hl
  have hN : ∀ i, i < 1 → i < yN Y := fun i h => by rw [hN0]; exact h
  refine j_ald_n o dX5_last_0 rfl rfl (q := 1) rfl ?_
  refine j_gf o dX5_last_1 (jb hp) kcX5 1 (Nat.le_of_ble_eq_true rfl) q209 rfl (q := 4) rfl ?_
  refine j_ald_n o dX5_last_4 rfl rfl (q := 5) rfl ?_
  refine j_gf o dX5_last_5 (jb hp) kcX5 1 (Nat.le_of_ble_eq_true rfl) q209 rfl (q := 8) rfl ?_
  refine j_callV0 o (ctJ2_size hG _ (jmr hq)) dX5_last_8 q527 wdJ2_size mdJ2_size (jb hq) (by rfl) (by rfl) rfl (Nat.le_of_ble_eq_true rfl) (Nat.le_of_ble_eq_true rfl) (by omega) (Nat.le_of_ble_eq_true rfl) (q := 11) rfl (fun v wd hpost => ?_)
  obtain ⟨rfl, rfl⟩ := hpost
  dsimp only [List.cons_append, List.nil_append, Option.toList]
  refine j_iconst o (nI 1) dX5_last_11 (by decide) (q := 12) rfl ?_
  refine j_isub o dX5_last_12 (q := 13) rfl ?_
  refine j_topi o (nI (es.length - 1)) (pk_sub (by omega)) ?_
  refine j_callV0 o (ctJ2_get hG _ (hA.mono (fun _ => jmr)) he) dX5_last_13 q528 wdJ2_get mdJ2_get (jb hq) (by rfl) (by rfl) rfl (Nat.le_of_ble_eq_true rfl) (Nat.le_of_ble_eq_true rfl) (by omega) (Nat.le_of_ble_eq_true rfl) (q := 16) rfl (fun v wd hpost => ?_)
  obtain ⟨rfl, rfl⟩ := hpost
  dsimp only [List.cons_append, List.nil_append, Option.toList]
  refine j_castS (r := (RX11, TX11, 2)) o dX5_last_16 q529 (jb hr9) (ci := 11) rfl (q := 19) rfl ?_
  exact j_aret o r dX5_last_19 (by first | exact Or.inl ⟨_, rfl⟩ | exact Or.inr ⟨_, rfl⟩) rfl [] _ rfl (⟨rfl, rfl⟩) (by omega)
/-- the entries es hold the records rs -/
def entR (S : va_W) (es : List Nat) (rs : List Row) : Prop := es.length = rs.length ∧ ∀ (i e : Nat) (r : Row), es[i]? = some e → rs[i]? = some r → (e, enO r) ∈ S
theorem entR.mono {S S2 : va_W} {es : List Nat} {rs : List Row} (h : entR S es rs) (hs : ∀ c ∈ S, c ∈ S2) : entR S2 es rs := ⟨h.1, fun i e r h1 h2 => hs _ (h.2 i e r h1 h2)⟩
theorem ctX1_placeIn {l : Launch} {g : jG} (hG : GS l g) (bg : va_W) {p n rl key : Nat} {es : List Nat} {rs : List Row} (hp : (p, pgO n rl) ∈ bg) (hA : ALR g bg rl es) (hE : entR bg es rs) (hk : key < 2 ^ 31) (hks : ∀ r ∈ rs, r.1 < 2 ^ 31) : KX1_placeIn l g 4 0 [.ref p, .int (nI key)] bg [] (fun v wd => ∃ x, v = some (.int x) ∧ jIdx (rs.map (·.1)) key x ∧ wd = []) := by
  obtain ⟨m, b, hq, h0, h⟩ := id hA
  have hlen := hE.1
  refine Ctr.of [some (.ref p), some (.int (nI key)), none] hG (by decide +kernel) rfl (Nat.le_of_ble_eq_true rfl) (fun Y hl hN0 o r hI => ?_)
  subst hl
  have hN : ∀ i, i < 3 → i < yN Y := fun i h => by rw [hN0]; exact h
  have loop : ∀ d k, k + d = rs.length → (∀ j, j < k → (rs.map (·.1))[j]? ≠ some key) → J g Y [] 0 2 [some (.ref p), some (.int (nI key)), some (.int (nI k))] [] := by
    intro d
    induction d with
    | zero =>
      intro k hk9 hno
      refine j_ild_n o dX1_placeIn_2 rfl (q := 3) rfl ?_
      refine j_ald_n o dX1_placeIn_3 rfl rfl (q := 4) rfl ?_
      refine j_gf o dX1_placeIn_4 (jb hp) kcX5 1 (Nat.le_of_ble_eq_true rfl) q211 rfl (q := 7) rfl ?_
      refine j_callV0 o (ctJ2_size hG _ (jmr hq)) dX1_placeIn_7 q398 wdJ2_size mdJ2_size (jb hq) (by rfl) (by rfl) rfl (Nat.le_of_ble_eq_true rfl) (Nat.le_of_ble_eq_true rfl) (by omega) (Nat.le_of_ble_eq_true rfl) (q := 10) rfl (fun v wd hpost => ?_)
      obtain ⟨rfl, rfl⟩ := hpost
      dsimp only [List.cons_append, List.nil_append, Option.toList]
      refine j_icgeT o 39 dX1_placeIn_10 (by decide) (nI_le (by omega) (by omega)) ?_
      refine j_iconst o (-1) dX1_placeIn_39 (by decide) (q := 40) rfl ?_
      exact j_ret o r dX1_placeIn_40 rfl [] _ rfl (⟨_, rfl, Or.inr ⟨fun hm => by obtain ⟨i, hi⟩ := List.getElem?_of_mem hm; exact hno i (by have := (List.getElem?_eq_some_iff.mp hi).1; simp at this; omega) hi, rfl⟩, rfl⟩) (by omega)
    | succ d ih =>
      intro k hk9 hno
      obtain ⟨e, he⟩ : ∃ e, es[k]? = some e := ⟨_, List.getElem?_eq_getElem (by omega)⟩
      obtain ⟨r9, hr9⟩ : ∃ r9, rs[k]? = some r9 := ⟨_, List.getElem?_eq_getElem (by omega)⟩
      have hc := hE.2 k e r9 he hr9
      have hk3 := hks r9 (List.mem_of_getElem? hr9)
      have hm9 : (rs.map (·.1))[k]? = some r9.1 := by rw [List.getElem?_map, hr9]; rfl
      refine j_ild_n o dX1_placeIn_2 rfl (q := 3) rfl ?_
      refine j_ald_n o dX1_placeIn_3 rfl rfl (q := 4) rfl ?_
      refine j_gf o dX1_placeIn_4 (jb hp) kcX5 1 (Nat.le_of_ble_eq_true rfl) q211 rfl (q := 7) rfl ?_
      refine j_callV0 o (ctJ2_size hG _ (jmr hq)) dX1_placeIn_7 q398 wdJ2_size mdJ2_size (jb hq) (by rfl) (by rfl) rfl (Nat.le_of_ble_eq_true rfl) (Nat.le_of_ble_eq_true rfl) (by omega) (Nat.le_of_ble_eq_true rfl) (q := 10) rfl (fun v wd hpost => ?_)
      obtain ⟨rfl, rfl⟩ := hpost
      dsimp only [List.cons_append, List.nil_append, Option.toList]
      refine j_icgeF o (t := 39) dX1_placeIn_10 (by decide) (q := 13) rfl (nI_ge (by omega) (by omega)) ?_
      refine j_ald_n o dX1_placeIn_13 rfl rfl (q := 14) rfl ?_
      refine j_gf o dX1_placeIn_14 (jb hp) kcX5 1 (Nat.le_of_ble_eq_true rfl) q211 rfl (q := 17) rfl ?_
      refine j_ild_n o dX1_placeIn_17 rfl (q := 18) rfl ?_
      refine j_callV0 o (ctJ2_get hG _ (hA.mono (fun _ => jmr)) he) dX1_placeIn_18 q466 wdJ2_get mdJ2_get (jb hq) (by rfl) (by rfl) rfl (Nat.le_of_ble_eq_true rfl) (Nat.le_of_ble_eq_true rfl) (by omega) (Nat.le_of_ble_eq_true rfl) (q := 21) rfl (fun v wd hpost => ?_)
      obtain ⟨rfl, rfl⟩ := hpost
      dsimp only [List.cons_append, List.nil_append, Option.toList]
      refine j_castS (r := (RX11, TX11, 2)) o dX1_placeIn_21 q517 (jb hc) (ci := 11) rfl (q := 24) rfl ?_
      refine j_gf o dX1_placeIn_24 (jb hc) kcX11 0 (Nat.le_of_ble_eq_true rfl) q447 rfl (q := 27) rfl ?_
      refine j_ild_n o dX1_placeIn_27 rfl (q := 28) rfl ?_
      refine j_icne o 33 dX1_placeIn_28 (by decide) (q := 31) rfl (fun c => ?_) (fun c => ?_)
      · have c : ¬ r9.1 = key := fun h => c (by rw [h])
        refine j_inc2 o (nI (k + 1)) dX1_placeIn_33 (by first | exact nI_1 _ | exact pk_m1 _ | rfl) rfl (q := 36) rfl ?_
        refine j_goto o 2 dX1_placeIn_36 (by decide) ?_
        refine ih (k + 1) (by omega) (fun j hj => ?_)
        rcases Nat.lt_or_ge j k with h9 | h9
        · exact hno j h9
        · have : j = k := by omega
          subst this
          rw [hm9]
          intro e
          exact c (Option.some.inj e)
      · have c : r9.1 = key := (nI_eq hk3 hk).mp c
        refine j_ild_n o dX1_placeIn_31 rfl (q := 32) rfl ?_
        exact j_ret o r dX1_placeIn_32 rfl [] _ rfl (⟨_, rfl, Or.inl ⟨k, by simp; omega, by rw [hm9, c], hno, rfl⟩, rfl⟩) (by omega)
  refine j_iconst o (nI 0) dX1_placeIn_0 (by decide) (q := 1) rfl ?_
  refine j_ist2 o dX1_placeIn_1 rfl (hN 2 (Nat.le_of_ble_eq_true rfl)) (q := 2) rfl ?_
  exact loop rs.length 0 (by omega) (fun j hj => by omega)

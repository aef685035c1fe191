/-! THE STORE, first: places, loads, pages, buckets -/
set_option maxRecDepth 100000
theorem jwl {wr : List va_W} {bg w : va_W} {c : Nat × va_E} (k : Nat) (h1 : wr[k]? = some w) (h2 : c ∈ w) : c ∈ wr.flatten ++ bg := List.mem_append_left _ (List.mem_flatten.mpr ⟨w, List.mem_of_getElem? h1, h2⟩)
/-- the address by level and pointer -/
def ad (lv pt h : Nat) : Nat := if h % (2 * 2 ^ lv) < pt then h % (2 * (2 * 2 ^ lv)) else h % (2 * 2 ^ lv)
theorem adr_ad {n : Nat} (hn : 2 ≤ n) (h : Nat) : adr n h = ad (lvl n) (ptr n) h := by
  unfold adr ad
  rw [bse_lvl hn]
theorem p2_lt {lv : Nat} (h : lv < 20) : 2 * 2 ^ lv < 2 ^ 21 := by
  have : 2 ^ lv < 2 ^ 20 := Nat.pow_lt_pow_right (by omega) h
  omega
theorem ad_le {lv pt h : Nat} : ad lv pt h ≤ h := by
  unfold ad
  split <;> exact Nat.mod_le _ _
theorem ctX4_init {l : Launch} {g : jG} (hG : GS l g) (bg : va_W) (q : Nat) : KX4_init l g 4 1 [.ref q] bg [[(q, eO 4 fdX4)]] (fun v wd => v = none ∧ ∃ ch wl, wd = [[(q, bkO ch 0)], wl] ∧ AL g ch [] wl) := by
  refine Ctr.of [some (.ref q)] hG (by decide +kernel) rfl (Nat.le_of_ble_eq_true rfl) (fun Y hl hN0 o r hI => ?_)
  subst hl
  have hN : ∀ i, i < 1 → i < yN Y := fun i h => by rw [hN0]; exact h
  refine j_ald_n o dX4_init_0 rfl rfl (q := 1) rfl ?_
  refine j_obj o (Nat.le_of_ble_eq_true rfl) dX4_init_1 q179 q110 q111 (Nat.le_of_ble_eq_true rfl) (q := 4) rfl ?_
  refine j_ald_n o dX4_init_4 rfl rfl (q := 5) rfl ?_
  refine j_new o (fs := fdJ2) 1 dX4_init_5 kcJ2 q180 q134 q69 dfJ2 (by omega) (by decide) (q := 8) rfl (fun ch hb_ch => ?_)
  refine j_dup o dX4_init_8 rfl (q := 9) rfl ?_
  refine j_callI1 o (ctJ2_init hG _ ch) dX4_init_9 q181 wdJ2_init mdJ2_init rfl rfl (Nat.le_of_ble_eq_true rfl) (Nat.le_of_ble_eq_true rfl) (by omega) (Nat.le_of_ble_eq_true rfl) (q := 12) rfl (fun v wd hpost => ?_)
  obtain ⟨rfl, wl, rfl, hA⟩ := hpost
  dsimp only [List.cons_append, List.nil_append, Option.toList]
  refine j_pfF o dX4_init_12 (hI rfl) 1 0 rfl rfl kcX4 0 (Nat.le_of_ble_eq_true rfl) q182 rfl rfl rfl rfl (Nat.le_of_ble_eq_true rfl) (q := 15) rfl ?_
  dsimp only [List.set]
  refine j_mv1 ?_
  exact j_vret o r dX4_init_15 [_, _] _ rfl (⟨rfl, ch, wl, rfl, hA⟩) (by omega)
theorem ctX2_base {l : Launch} {g : jG} (hG : GS l g) (bg : va_W) {q lv pt sz hs bl tk : Nat} {F : K5} (hq : (q, stO F lv pt sz hs bl tk) ∈ bg) (hlv : lv < 20) : KX2_base l g 1 0 [.ref q] bg [] (fun v wd => v = some (.int (nI (2 * 2 ^ lv))) ∧ wd = []) := by
  have := p2_lt hlv
  refine Ctr.of [some (.ref q)] hG (by decide +kernel) rfl (Nat.le_of_ble_eq_true rfl) (fun Y hl hN0 o r hI => ?_)
  subst hl
  have hN : ∀ i, i < 1 → i < yN Y := fun i h => by rw [hN0]; exact h
  refine j_iconst o (nI 2) dX2_base_0 (by decide) (q := 1) rfl ?_
  refine j_ald_n o dX2_base_1 rfl rfl (q := 2) rfl ?_
  refine j_gf o dX2_base_2 (jb hq) kcX2 3 (Nat.le_of_ble_eq_true rfl) q297 rfl (q := 5) rfl ?_
  refine j_ishl o dX2_base_5 (q := 6) rfl ?_
  refine j_topi o (nI (2 * 2 ^ lv)) (nI_shl (by omega) (by omega)) ?_
  exact j_ret o r dX2_base_6 rfl [] _ rfl (⟨rfl, rfl⟩) (by omega)
theorem ctX2_load {l : Launch} {g : jG} (hG : GS l g) (bg : va_W) {q lv pt sz hs bl tk : Nat} {F : K5} {qs : List Nat} (hq : (q, stO F lv pt sz hs bl tk) ∈ bg) (hb : ALR g bg bl qs) (hn : 0 < qs.length) (hc : 0 < F.1) (hc9 : F.1 < 8) (hs9 : sz < 2 ^ 20) : KX2_load l g 3 0 [.ref q] bg [] (fun v wd => v = some (.int (nI (100 * sz / (qs.length * F.1)))) ∧ wd = []) := by
  obtain ⟨m, b, hbq, h0, h⟩ := id hb
  have h1 : 0 < qs.length * F.1 := Nat.mul_pos hn hc
  have h2 : qs.length * F.1 < 2 ^ 18 * 8 := Nat.mul_lt_mul'' h0 hc9
  refine Ctr.of [some (.ref q)] hG (by decide +kernel) rfl (Nat.le_of_ble_eq_true rfl) (fun Y hl hN0 o r hI => ?_)
  subst hl
  have hN : ∀ i, i < 1 → i < yN Y := fun i h => by rw [hN0]; exact h
  refine j_bipush o (nI 100) dX2_load_0 (by decide) (q := 2) rfl ?_
  refine j_ald_n o dX2_load_2 rfl rfl (q := 3) rfl ?_
  refine j_gf o dX2_load_3 (jb hq) kcX2 5 (Nat.le_of_ble_eq_true rfl) q301 rfl (q := 6) rfl ?_
  refine j_imul o dX2_load_6 (q := 7) rfl ?_
  refine j_topi o (nI (100 * sz)) (pk_mul _ _) ?_
  refine j_ald_n o dX2_load_7 rfl rfl (q := 8) rfl ?_
  refine j_gf o dX2_load_8 (jb hq) kcX2 9 (Nat.le_of_ble_eq_true rfl) q309 rfl (q := 11) rfl ?_
  refine j_callV0 o (ctJ2_size hG _ (jmr hbq)) dX2_load_11 q417 wdJ2_size mdJ2_size (jb hbq) (by rfl) (by rfl) rfl (Nat.le_of_ble_eq_true rfl) (Nat.le_of_ble_eq_true rfl) (by omega) (Nat.le_of_ble_eq_true rfl) (q := 14) rfl (fun v wd hpost => ?_)
  obtain ⟨rfl, rfl⟩ := hpost
  dsimp only [List.cons_append, List.nil_append, Option.toList]
  refine j_ald_n o dX2_load_14 rfl rfl (q := 15) rfl ?_
  refine j_gf o dX2_load_15 (jb hq) kcX2 0 (Nat.le_of_ble_eq_true rfl) q289 rfl (q := 18) rfl ?_
  refine j_imul o dX2_load_18 (q := 19) rfl ?_
  refine j_topi o (nI (qs.length * F.1)) (pk_mul _ _) ?_
  refine j_idiv o dX2_load_19 (nI_n0 h1 (by omega)) (q := 20) rfl ?_
  refine j_topi o (nI (100 * sz / (qs.length * F.1))) (pk_div (by omega) h1 (by omega)) ?_
  exact j_ret o r dX2_load_20 rfl [] _ rfl (⟨rfl, rfl⟩) (by omega)
theorem ctX2_address {l : Launch} {g : jG} (hG : GS l g) (bg : va_W) {q lv pt sz hs bl tk h : Nat} {F : K5} (hq : (q, stO F lv pt sz hs bl tk) ∈ bg) (hlv : lv < 20) (hh : h < 2 ^ 20) (hp : pt < 2 ^ 20) : KX2_address l g 2 0 [.ref q, .int (nI h)] bg [] (fun v wd => v = some (.int (nI (ad lv pt h))) ∧ wd = []) := by
  have h1 := p2_lt hlv
  have h2 := Nat.two_pow_pos lv
  have h3 : h % (2 * 2 ^ lv) ≤ h := Nat.mod_le _ _
  refine Ctr.of [some (.ref q), some (.int (nI h)), none] hG (by decide +kernel) rfl (Nat.le_of_ble_eq_true rfl) (fun Y hl hN0 o r hI => ?_)
  subst hl
  have hN : ∀ i, i < 3 → i < yN Y := fun i h => by rw [hN0]; exact h
  refine j_ild_n o dX2_address_0 rfl (q := 1) rfl ?_
  refine j_ald_n o dX2_address_1 rfl rfl (q := 2) rfl ?_
  refine j_callV0 o (ctX2_base hG _ (jmr hq) hlv) dX2_address_2 q503 wdX2_base mdX2_base (jb hq) (by rfl) (by rfl) rfl (Nat.le_of_ble_eq_true rfl) (Nat.le_of_ble_eq_true rfl) (by omega) (Nat.le_of_ble_eq_true rfl) (q := 5) rfl (fun v wd hpost => ?_)
  obtain ⟨rfl, rfl⟩ := hpost
  dsimp only [List.cons_append, List.nil_append, Option.toList]
  refine j_irem o dX2_address_5 (nI_n0 (by omega) (by omega)) (q := 6) rfl ?_
  refine j_topi o (nI (h % (2 * 2 ^ lv))) (nI_rem (by omega) (by omega) (by omega)) ?_
  refine j_ist2 o dX2_address_6 rfl (hN 2 (Nat.le_of_ble_eq_true rfl)) (q := 7) rfl ?_
  refine j_ild_n o dX2_address_7 rfl (q := 8) rfl ?_
  refine j_ald_n o dX2_address_8 rfl rfl (q := 9) rfl ?_
  refine j_gf o dX2_address_9 (jb hq) kcX2 4 (Nat.le_of_ble_eq_true rfl) q299 rfl (q := 12) rfl ?_
  refine j_icge o 26 dX2_address_12 (by decide) (q := 15) rfl (fun c => ?_) (fun c => ?_)
  · refine j_ild_n o dX2_address_26 rfl (q := 27) rfl ?_
    have c : ¬ h % (2 * 2 ^ lv) < pt := (by rw [nI_leI (by omega) (by omega)] at c; omega)
    exact j_ret o r dX2_address_27 rfl [] _ rfl (⟨by unfold ad; rw [if_neg c], rfl⟩) (by omega)
  · have c : h % (2 * 2 ^ lv) < pt := (by rw [nI_leI (by omega) (by omega)] at c; omega)
    refine j_ild_n o dX2_address_15 rfl (q := 16) rfl ?_
    refine j_iconst o (nI 2) dX2_address_16 (by decide) (q := 17) rfl ?_
    refine j_ald_n o dX2_address_17 rfl rfl (q := 18) rfl ?_
    refine j_callV0 o (ctX2_base hG _ (jmr hq) hlv) dX2_address_18 q503 wdX2_base mdX2_base (jb hq) (by rfl) (by rfl) rfl (Nat.le_of_ble_eq_true rfl) (Nat.le_of_ble_eq_true rfl) (by omega) (Nat.le_of_ble_eq_true rfl) (q := 21) rfl (fun v wd hpost => ?_)
    obtain ⟨rfl, rfl⟩ := hpost
    dsimp only [List.cons_append, List.nil_append, Option.toList]
    refine j_imul o dX2_address_21 (q := 22) rfl ?_
    refine j_topi o (nI (2 * (2 * 2 ^ lv))) (pk_mul _ _) ?_
    refine j_irem o dX2_address_22 (nI_n0 (by omega) (by omega)) (q := 23) rfl ?_
    refine j_topi o (nI (h % (2 * (2 * 2 ^ lv)))) (nI_rem (by omega) (by omega) (by omega)) ?_
    refine j_goto o 27 dX2_address_23 (by decide) ?_
    exact j_ret o r dX2_address_27 rfl [] _ rfl (⟨by unfold ad; rw [if_pos c], rfl⟩) (by omega)
theorem ctX2_depth {l : Launch} {g : jG} (hG : GS l g) (bg : va_W) {q lv pt sz hs bl tk b : Nat} {F : K5} (hq : (q, stO F lv pt sz hs bl tk) ∈ bg) (hlv : lv < 20) (hh : b < 2 ^ 20) (hp : pt < 2 ^ 20) : KX2_depth l g 2 0 [.ref q, .int (nI b)] bg [] (fun v wd => v = some (.int (nI (lv + if b < pt ∨ 2 * 2 ^ lv ≤ b then 1 else 0))) ∧ wd = []) := by
  have h1 := p2_lt hlv
  refine Ctr.of [some (.ref q), some (.int (nI b))] hG (by decide +kernel) rfl (Nat.le_of_ble_eq_true rfl) (fun Y hl hN0 o r hI => ?_)
  subst hl
  have hN : ∀ i, i < 2 → i < yN Y := fun i h => by rw [hN0]; exact h
  have fin : ∀ n, (n = 0 ∨ n = 1) → n = (if b < pt ∨ 2 * 2 ^ lv ≤ b then 1 else 0) → J g Y [] 0 25 [some (.ref q), some (.int (nI b))] [.int (nI n), .int (nI lv)] := by
    intro n hn e
    refine j_callSN0 o (ctX1_bit hG _ hn) dX2_depth_25 q666 wdX1_bit mdX1_bit rfl (Nat.le_of_ble_eq_true rfl) (Nat.le_of_ble_eq_true rfl) (by omega) (Nat.le_of_ble_eq_true rfl) (q := 28) rfl (fun v wd hpost => ?_)
    obtain ⟨rfl, rfl⟩ := hpost
    dsimp only [List.cons_append, List.nil_append, Option.toList]
    refine j_iadd o dX2_depth_28 (q := 29) rfl ?_
    refine j_topi o (nI (lv + n)) (nI_add _ _) ?_
    exact j_ret o r dX2_depth_29 rfl [] _ rfl (⟨by rw [e], rfl⟩) (by omega)
  refine j_ald_n o dX2_depth_0 rfl rfl (q := 1) rfl ?_
  refine j_gf o dX2_depth_1 (jb hq) kcX2 3 (Nat.le_of_ble_eq_true rfl) q297 rfl (q := 4) rfl ?_
  refine j_ild_n o dX2_depth_4 rfl (q := 5) rfl ?_
  refine j_ald_n o dX2_depth_5 rfl rfl (q := 6) rfl ?_
  refine j_gf o dX2_depth_6 (jb hq) kcX2 4 (Nat.le_of_ble_eq_true rfl) q299 rfl (q := 9) rfl ?_
  refine j_iclt o 20 dX2_depth_9 (by decide) (q := 12) rfl (fun c => ?_) (fun c => ?_)
  · rw [nI_ltI (by omega) (by omega)] at c
    refine j_iconst o (nI 1) dX2_depth_20 (by decide) (q := 21) rfl ?_
    refine j_goto o 25 dX2_depth_21 (by decide) ?_
    exact fin 1 (Or.inr rfl) (by rw [if_pos (Or.inl c)])
  · rw [nI_ltI (by omega) (by omega)] at c
    refine j_ild_n o dX2_depth_12 rfl (q := 13) rfl ?_
    refine j_ald_n o dX2_depth_13 rfl rfl (q := 14) rfl ?_
    refine j_callV0 o (ctX2_base hG _ (jmr hq) hlv) dX2_depth_14 q503 wdX2_base mdX2_base (jb hq) (by rfl) (by rfl) rfl (Nat.le_of_ble_eq_true rfl) (Nat.le_of_ble_eq_true rfl) (by omega) (Nat.le_of_ble_eq_true rfl) (q := 17) rfl (fun v wd hpost => ?_)
    obtain ⟨rfl, rfl⟩ := hpost
    dsimp only [List.cons_append, List.nil_append, Option.toList]
    refine j_iclt o 24 dX2_depth_17 (by decide) (q := 20) rfl (fun c2 => ?_) (fun c2 => ?_)
    · rw [nI_ltI (by omega) (by omega)] at c2
      refine j_iconst o (nI 0) dX2_depth_24 (by decide) (q := 25) rfl ?_
      exact fin 0 (Or.inl rfl) (by rw [if_neg (by omega)])
    · rw [nI_ltI (by omega) (by omega)] at c2
      refine j_iconst o (nI 1) dX2_depth_20 (by decide) (q := 21) rfl ?_
      refine j_goto o 25 dX2_depth_21 (by decide) ?_
      exact fin 1 (Or.inr rfl) (by rw [if_pos (Or.inr (by omega))])
theorem ctX2_bucketOf {l : Launch} {g : jG} (hG : GS l g) (bg : va_W) {q lv pt sz hs bl tk key ch sd qb cb fl : Nat} {F : K5} {qs : List Nat} (hq : (q, stO F lv pt sz hs bl tk) ∈ bg) (hh : (hs, hsO ch sd) ∈ bg) (hb : ALR g bg bl qs) (hlv : lv < 20) (hp : pt < 2 ^ 20) (hc : ch < 1024) (hs9 : sd < 10) (hk : key < 2 ^ 31) (hx : qs[ad lv pt (hsh ch sd key)]? = some qb) (hqb : (qb, bkO cb fl) ∈ bg) : KX2_bucketOf l g 5 0 [.ref q, .int (nI key)] bg [] (fun v wd => v = some (.ref qb) ∧ wd = []) := by
  obtain ⟨m, b, hbq, h0, h⟩ := id hb
  have h1 := hsh_lt ch sd key
  refine Ctr.of [some (.ref q), some (.int (nI key))] hG (by decide +kernel) rfl (Nat.le_of_ble_eq_true rfl) (fun Y hl hN0 o r hI => ?_)
  subst hl
  have hN : ∀ i, i < 2 → i < yN Y := fun i h => by rw [hN0]; exact h
  refine j_ald_n o dX2_bucketOf_0 rfl rfl (q := 1) rfl ?_
  refine j_gf o dX2_bucketOf_1 (jb hq) kcX2 9 (Nat.le_of_ble_eq_true rfl) q309 rfl (q := 4) rfl ?_
  refine j_ald_n o dX2_bucketOf_4 rfl rfl (q := 5) rfl ?_
  refine j_ald_n o dX2_bucketOf_5 rfl rfl (q := 6) rfl ?_
  refine j_gf o dX2_bucketOf_6 (jb hq) kcX2 8 (Nat.le_of_ble_eq_true rfl) q307 rfl (q := 9) rfl ?_
  refine j_ild_n o dX2_bucketOf_9 rfl (q := 10) rfl ?_
  refine j_callV0 o (ctX3_of hG _ (jmr hh) hc hs9 hk) dX2_bucketOf_10 q492 wdX3_of mdX3_of (jb hh) (by rfl) (by rfl) rfl (Nat.le_of_ble_eq_true rfl) (Nat.le_of_ble_eq_true rfl) (by omega) (Nat.le_of_ble_eq_true rfl) (q := 13) rfl (fun v wd hpost => ?_)
  obtain ⟨rfl, rfl⟩ := hpost
  dsimp only [List.cons_append, List.nil_append, Option.toList]
  refine j_callV0 o (ctX2_address hG _ (jmr hq) hlv (by omega) hp) dX2_bucketOf_13 q499 wdX2_address mdX2_address (jb hq) (by rfl) (by rfl) rfl (Nat.le_of_ble_eq_true rfl) (Nat.le_of_ble_eq_true rfl) (by omega) (Nat.le_of_ble_eq_true rfl) (q := 16) rfl (fun v wd hpost => ?_)
  obtain ⟨rfl, rfl⟩ := hpost
  dsimp only [List.cons_append, List.nil_append, Option.toList]
  refine j_callV0 o (ctJ2_get hG _ (hb.mono (fun _ => jmr)) hx) dX2_bucketOf_16 q418 wdJ2_get mdJ2_get (jb hbq) (by rfl) (by rfl) rfl (Nat.le_of_ble_eq_true rfl) (Nat.le_of_ble_eq_true rfl) (by omega) (Nat.le_of_ble_eq_true rfl) (q := 19) rfl (fun v wd hpost => ?_)
  obtain ⟨rfl, rfl⟩ := hpost
  dsimp only [List.cons_append, List.nil_append, Option.toList]
  refine j_castS (r := (RX4, TX4, 2)) o dX2_bucketOf_19 q174 (jb hqb) (ci := 4) rfl (q := 22) rfl ?_
  exact j_aret o r dX2_bucketOf_22 (by first | exact Or.inl ⟨_, rfl⟩ | exact Or.inr ⟨_, rfl⟩) rfl [] _ rfl (⟨rfl, rfl⟩) (by omega)
theorem ctX2_take {l : Launch} {g : jG} (hG : GS l g) (bg : va_W) {q lv pt sz hs bl tk : Nat} {F : K5} {us us2 : List Nat} (hq : (q, stO F lv pt sz hs bl tk) ∈ bg) (hu : us.length < 96) (hu2 : ∀ k, k ∈ us2 ↔ k = lowF us ∨ k ∈ us) : KX2_take l g 5 2 [.ref q] bg [[(tk, tkO g us)]] (fun v wd => ∃ p w, v = some (.ref p) ∧ wd = [[(tk, tkO g us2)], w] ∧ isPg g p (lowF us) [] w) := by
  obtain ⟨h1, h2, h3⟩ := lowF_spec hu
  refine Ctr.of [some (.ref q), none] hG (by decide +kernel) rfl (Nat.le_of_ble_eq_true rfl) (fun Y hl hN0 o r hI => ?_)
  subst hl
  have hN : ∀ i, i < 2 → i < yN Y := fun i h => by rw [hN0]; exact h
  have loop : ∀ d k, k + d = lowF us → J g Y [[(tk, tkO g us)]] 0 2 [some (.ref q), some (.int (nI k))] [] := by
    intro d
    induction d with
    | zero =>
      intro k hk9
      have e : k = lowF us := by omega
      subst e
      refine j_ald_n o dX2_take_2 rfl rfl (q := 3) rfl ?_
      refine j_gf o dX2_take_3 (jb hq) kcX2 10 (Nat.le_of_ble_eq_true rfl) q311 rfl (q := 6) rfl ?_
      refine j_ild_n o dX2_take_6 rfl (q := 7) rfl ?_
      refine j_zald o dX2_take_7 (jw 0 0 rfl rfl) (by omega) (by omega) (q := 8) rfl ?_
      rw [if_neg h2]
      refine j_ifeqT o 17 dX2_take_8 (by decide) rfl ?_
      refine j_ald_n o dX2_take_17 rfl rfl (q := 18) rfl ?_
      refine j_gf o dX2_take_18 (jb hq) kcX2 10 (Nat.le_of_ble_eq_true rfl) q311 rfl (q := 21) rfl ?_
      refine j_ild_n o dX2_take_21 rfl (q := 22) rfl ?_
      refine j_iconst o (nI 1) dX2_take_22 (by decide) (q := 23) rfl ?_
      refine j_zast o dX2_take_23 0 0 rfl rfl (by omega) (by omega) rfl (q := 24) rfl ?_
      dsimp only [List.set]
      refine j_fnA (k9 := 0) (j := 0) (f2 := fun k => nI (if k ∈ us2 then 1 else 0)) rfl rfl (fun i hi => ?_) ?_
      · show (if i = lowF us then _ else _) = _
        by_cases hi2 : i = lowF us
        · rw [if_pos hi2, if_pos ((hu2 i).mpr (Or.inl hi2))]
          rfl
        · rw [if_neg hi2]
          dsimp only
          by_cases hi3 : i ∈ us
          · rw [if_pos hi3, if_pos ((hu2 i).mpr (Or.inr hi3))]
          · rw [if_neg hi3, if_neg (fun h => (((hu2 i).mp h).elim hi2 hi3))]
      dsimp only [List.set]
      refine j_new o (fs := fdX5) 1 dX2_take_24 kcX5 q198 q199 q71 dfX5 (by omega) (by decide) (q := 27) rfl (fun p hb_p => ?_)
      refine j_dup o dX2_take_27 rfl (q := 28) rfl ?_
      refine j_ild_n o dX2_take_28 rfl (q := 29) rfl ?_
      refine j_callI1 o (ctX5_init hG _ p _) dX2_take_29 q200 wdX5_init mdX5_init rfl rfl (Nat.le_of_ble_eq_true rfl) (Nat.le_of_ble_eq_true rfl) (by omega) (Nat.le_of_ble_eq_true rfl) (q := 32) rfl (fun v wd hpost => ?_)
      obtain ⟨rfl, rl, wl, rfl, hA⟩ := hpost
      dsimp only [List.cons_append, List.nil_append, Option.toList]
      refine j_mv1 ?_
      exact j_aret o r dX2_take_32 (by first | exact Or.inl ⟨_, rfl⟩ | exact Or.inr ⟨_, rfl⟩) rfl [_, _] _ rfl (⟨p, _, rfl, rfl, rl, wl, rfl, hA⟩) (by omega)
    | succ d ih =>
      intro k hk9
      refine j_ald_n o dX2_take_2 rfl rfl (q := 3) rfl ?_
      refine j_gf o dX2_take_3 (jb hq) kcX2 10 (Nat.le_of_ble_eq_true rfl) q311 rfl (q := 6) rfl ?_
      refine j_ild_n o dX2_take_6 rfl (q := 7) rfl ?_
      refine j_zald o dX2_take_7 (jw 0 0 rfl rfl) (by omega) (by omega) (q := 8) rfl ?_
      rw [if_pos (h3 k (by omega))]
      refine j_ifeqF o (t := 17) dX2_take_8 (by decide) (q := 11) rfl (by decide) ?_
      refine j_inc1 o (nI (k + 1)) dX2_take_11 (by first | exact nI_1 _ | exact pk_m1 _ | rfl) rfl (q := 14) rfl ?_
      refine j_goto o 2 dX2_take_14 (by decide) ?_
      exact ih (k + 1) (by omega)
  refine j_iconst o (nI 0) dX2_take_0 (by decide) (q := 1) rfl ?_
  refine j_ist1 o dX2_take_1 rfl (hN 1 (Nat.le_of_ble_eq_true rfl)) (q := 2) rfl ?_
  exact loop (lowF us) 0 (by omega)
theorem ctX2_free {l : Launch} {g : jG} (hG : GS l g) (bg : va_W) {q lv pt sz hs bl tk p n rl : Nat} {F : K5} {us us2 : List Nat} (hq : (q, stO F lv pt sz hs bl tk) ∈ bg) (hp : (p, pgO n rl) ∈ bg) (hn9 : n < 96) (hu2 : ∀ k, k ∈ us2 ↔ k ≠ n ∧ k ∈ us) : KX2_free l g 1 0 [.ref q, .ref p] bg [[(tk, tkO g us)]] (fun v wd => v = none ∧ wd = [[(tk, tkO g us2)]]) := by
  refine Ctr.of [some (.ref q), some (.ref p)] hG (by decide +kernel) rfl (Nat.le_of_ble_eq_true rfl) (fun Y hl hN0 o r hI => ?_)
  subst hl
  have hN : ∀ i, i < 2 → i < yN Y := fun i h => by rw [hN0]; exact h
  refine j_ald_n o dX2_free_0 rfl rfl (q := 1) rfl ?_
  refine j_gf o dX2_free_1 (jb hq) kcX2 10 (Nat.le_of_ble_eq_true rfl) q311 rfl (q := 4) rfl ?_
  refine j_ald_n o dX2_free_4 rfl rfl (q := 5) rfl ?_
  refine j_gf o dX2_free_5 (jb hp) kcX5 0 (Nat.le_of_ble_eq_true rfl) q207 rfl (q := 8) rfl ?_
  refine j_iconst o (nI 0) dX2_free_8 (by decide) (q := 9) rfl ?_
  refine j_zast o dX2_free_9 0 0 rfl rfl (by omega) (by omega) rfl (q := 10) rfl ?_
  dsimp only [List.set]
  refine j_fnA (k9 := 0) (j := 0) (f2 := fun k => nI (if k ∈ us2 then 1 else 0)) rfl rfl (fun i hi => ?_) ?_
  · show (if i = n then _ else _) = _
    by_cases hi2 : i = n
    · rw [if_pos hi2, if_neg (fun h => ((hu2 i).mp h).1 hi2)]
      rfl
    · rw [if_neg hi2]
      dsimp only
      by_cases hi3 : i ∈ us
      · rw [if_pos hi3, if_pos ((hu2 i).mpr ⟨hi2, hi3⟩)]
      · rw [if_neg hi3, if_neg (fun h => hi3 ((hu2 i).mp h).2)]
  dsimp only [List.set]
  exact j_vret o r dX2_free_10 [_] _ rfl (⟨rfl, rfl⟩) (by omega)
theorem ctX2_addBucket {l : Launch} {g : jG} (hG : GS l g) (bg : va_W) {q lv pt sz hs bl tk cap : Nat} {F : K5} {us us2 qs : List Nat} {wbl : va_W} (hq : (q, stO F lv pt sz hs bl tk) ∈ bg) (hA : AL g bl qs wbl) (hel : ∀ y ∈ qs, jElB g bg y) (hn : qs.length < 2 ^ 16) (hu : us.length < 96) (hu2 : ∀ k, k ∈ us2 ↔ k = lowF us ∨ k ∈ us) : KX2_addBucket l g 8 (5 + uAdd qs.length) [.ref q] bg [[(tk, tkO g us)], wbl] (fun v wd => ∃ qb wbl2 w, v = some (.ref qb) ∧ wd = [[(tk, tkO g us2)], wbl2, w] ∧ AL g bl (qs ++ [qb]) wbl2 ∧ isBk g cap qb [] [lowF us] 0 w) := by
  have hA9 := hA
  obtain ⟨m3, b3, hA3⟩ := hA9
  obtain ⟨t3, rfl, -⟩ := hA3.head
  have u0 : uAdd ([] : List Nat).length = 1 := rfl
  refine Ctr.of [some (.ref q), none] hG (by decide +kernel) rfl (Nat.le_of_ble_eq_true rfl) (fun Y hl hN0 o r hI => ?_)
  subst hl
  have hN : ∀ i, i < 2 → i < yN Y := fun i h => by rw [hN0]; exact h
  refine j_new o (fs := fdX4) 1 dX2_addBucket_0 kcX4 q174 q175 q70 dfX4 (by omega) (by decide) (q := 3) rfl (fun qb hb_qb => ?_)
  refine j_dup o dX2_addBucket_3 rfl (q := 4) rfl ?_
  refine j_callIN1 o (ctX4_init hG _ qb) dX2_addBucket_4 q176 wdX4_init mdX4_init rfl rfl (Nat.le_of_ble_eq_true rfl) (Nat.le_of_ble_eq_true rfl) (by omega) (Nat.le_of_ble_eq_true rfl) (q := 7) rfl (fun v wd hpost => ?_)
  obtain ⟨rfl, ch, wl, rfl, hC⟩ := hpost
  dsimp only [List.cons_append, List.nil_append, Option.toList]
  refine j_ast1 o dX2_addBucket_7 rfl rfl (hN 1 (Nat.le_of_ble_eq_true rfl)) (q := 8) rfl ?_
  refine j_ald_n o dX2_addBucket_8 rfl rfl (q := 9) rfl ?_
  refine j_gf o dX2_addBucket_9 (jw 0 0 rfl rfl) kcX4 0 (Nat.le_of_ble_eq_true rfl) q183 rfl (q := 12) rfl ?_
  refine j_ald_n o dX2_addBucket_12 rfl rfl (q := 13) rfl ?_
  refine j_mv2 ?_
  refine j_callV1 o (ctX2_take hG _ (jmr hq) hu hu2) dX2_addBucket_13 q194 wdX2_take mdX2_take (jb hq) (by rfl) (by rfl) rfl (Nat.le_of_ble_eq_true rfl) (Nat.le_of_ble_eq_true rfl) (by omega) (Nat.le_of_ble_eq_true rfl) (q := 16) rfl (fun v wd hpost => ?_)
  obtain ⟨p, wp, rfl, rfl, hP⟩ := hpost
  dsimp only [List.cons_append, List.nil_append, Option.toList]
  refine j_mv3 ?_
  obtain ⟨rl, wr, rfl, hR⟩ := hP
  have hC9 := hC
  obtain ⟨m4, b4, hC4⟩ := hC9
  obtain ⟨t4, rfl, -⟩ := hC4.head
  refine j_callV1 o (ctJ2_add hG _ hC (by simp) (Or.inl ⟨_, jwl 1 rfl List.mem_cons_self, trivial⟩) (by simp)) dX2_addBucket_16 q218 wdJ2_add mdJ2_add (jw 0 0 rfl rfl) (by rfl) (by rfl) rfl (Nat.le_of_ble_eq_true rfl) (Nat.le_of_ble_eq_true rfl) (by omega) (Nat.le_of_ble_eq_true rfl) (q := 19) rfl (fun v wd hpost => ?_)
  obtain ⟨rfl, wc, rfl, hC2⟩ := hpost
  dsimp only [List.cons_append, List.nil_append, Option.toList]
  refine j_pop o dX2_addBucket_19 rfl (q := 20) rfl ?_
  refine j_ald_n o dX2_addBucket_20 rfl rfl (q := 21) rfl ?_
  refine j_gf o dX2_addBucket_21 (jb hq) kcX2 9 (Nat.le_of_ble_eq_true rfl) q309 rfl (q := 24) rfl ?_
  refine j_ald_n o dX2_addBucket_24 rfl rfl (q := 25) rfl ?_
  refine j_mv4 ?_
  refine j_callV1 o (ctJ2_add hG _ hA (jElB_l hel) (Or.inl ⟨_, jwl 3 rfl List.mem_cons_self, trivial⟩) hn) dX2_addBucket_25 q218 wdJ2_add mdJ2_add (jw 0 0 rfl rfl) (by rfl) (by rfl) rfl (Nat.le_of_ble_eq_true rfl) (Nat.le_of_ble_eq_true rfl) (by omega) (Nat.le_of_ble_eq_true rfl) (q := 28) rfl (fun v wd hpost => ?_)
  obtain ⟨rfl, wbl2, rfl, hA2⟩ := hpost
  dsimp only [List.cons_append, List.nil_append, Option.toList]
  refine j_pop o dX2_addBucket_28 rfl (q := 29) rfl ?_
  refine j_ald_n o dX2_addBucket_29 rfl rfl (q := 30) rfl ?_
  refine j_mv3 ?_
  refine j_mv2 ?_
  refine j_mv4 ?_
  refine j_mg [_, _, _] _ rfl ?_
  dsimp only [jflat, List.cons_append, List.nil_append]
  refine j_mv1 ?_
  refine j_mv2 ?_
  exact j_aret o r dX2_addBucket_30 (by first | exact Or.inl ⟨_, rfl⟩ | exact Or.inr ⟨_, rfl⟩) rfl [_, _, _] _ rfl (⟨qb, wbl2, _, rfl, rfl, hA2, ch, wc, [p], [(p, pgO (lowF us) rl) :: wr], by simp, hC2, rfl, rfl, fun j p2 n w h1 h2 h3 => by match j, h1, h2, h3 with | 0, h1, h2, h3 => (cases h1; cases h2; cases h3; exact ⟨rl, wr, rfl, by simpa [pgE] using hR⟩) | j + 1, h1, h2, h3 => simp at h1⟩) (by simp only [List.length_nil, uAdd, if_true]; omega)

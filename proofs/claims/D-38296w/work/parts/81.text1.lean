/-! TEXTS, first: digits, constant Strings, a builder's cells -/
set_option maxRecDepth 100000
theorem ng_toInt {a : Nat} (h : a < 2 ^ 31) : (-(nI a)).toInt = -(a : Int) := by
  rw [Int32.toInt_neg, show nI a = Int32.ofNat a from rfl, Int32.toInt_ofNat_of_lt (by omega)]
  rw [Int.bmod_def]
  split <;> omega
theorem ng_le {a b : Nat} (ha : a < 2 ^ 31) (hb : b < 2 ^ 31) : -(nI a) ≤ -(nI b) ↔ b ≤ a := by
  rw [Int32.le_iff_toInt_le, ng_toInt ha, ng_toInt hb]
  omega
theorem ng_lt {a b : Nat} (ha : a < 2 ^ 31) (hb : b < 2 ^ 31) : -(nI a) < -(nI b) ↔ b < a := by
  rw [Int32.lt_iff_toInt_lt, ng_toInt ha, ng_toInt hb]
  omega
theorem ng_div {k : Nat} (h : k < 2 ^ 31) : -(nI k) / nI 100 = -(nI (k / 100)) := by
  apply Int32.toInt_inj.mp
  rw [Int32.toInt_div, ng_toInt h, ng_toInt (by omega), show nI 100 = Int32.ofNat 100 from rfl, Int32.toInt_ofNat_of_lt (by omega), Int.neg_tdiv, Int.bmod_def]
  have e : ((k : Int).tdiv ((100 : Nat) : Int)) = ((k / 100 : Nat) : Int) := by
    rw [Int.tdiv_eq_ediv_of_nonneg (by omega)]
    omega
  rw [e]
  split <;> omega
theorem ng_ng (k : Nat) : -(-(nI k)) = nI k := Int32.neg_neg
theorem ng_rem {k : Nat} (h : k < 2 ^ 31) : -(nI (k / 100)) * nI 100 - -(nI k) = nI (k % 100) := by
  apply Int32.toInt_inj.mp
  have e1 : -(nI (k / 100)) * nI 100 = -(nI (k / 100 * 100)) := by rw [Int32.neg_mul, pk_mul]
  rw [e1, Int32.toInt_sub, ng_toInt (by omega), ng_toInt h, show nI (k % 100) = Int32.ofNat (k % 100) from rfl, Int32.toInt_ofNat_of_lt (by omega), Int.bmod_def]
  split <;> omega
theorem nar_b : ∀ d, d < 128 → vp_nar .byte (nI d) = nI d := by decide
theorem fit_b : ∀ d, d < 128 → Jvm.fits .byte (.int (nI d)) = true := by decide
/-- the digits of a number below ten thousand -/
def digs (k : Nat) : List Nat := if k < 10 then [48 + k] else if k < 100 then [48 + k / 10, 48 + k % 10] else if k < 1000 then [48 + k / 100, 48 + k % 100 / 10, 48 + k % 100 % 10] else [48 + k / 100 / 10, 48 + k / 100 % 10, 48 + k % 100 / 10, 48 + k % 100 % 10]
theorem digs_len (k : Nat) : (digs k).length = if k < 10 then 1 else if k < 100 then 2 else if k < 1000 then 3 else 4 := by
  unfold digs
  split
  · rfl
  · split
    · rfl
    · split <;> rfl
theorem digs_ge {k : Nat} : 1 ≤ (digs k).length ∧ (digs k).length ≤ 4 := by
  rw [digs_len]
  split
  · omega
  · split
    · omega
    · split <;> omega
theorem digs_lt {k : Nat} (h : k < 10000) : ∀ d ∈ digs k, d < 128 := by
  intro d hd
  unfold digs at hd
  split at hd
  · simp at hd; omega
  · split at hd
    · simp at hd; omega
    · split at hd
      · simp at hd; omega
      · simp at hd; omega
theorem ctJ8_stringSize {l : Launch} {g : jG} (hG : GS l g) (bg : va_W) {k : Nat} (hk : k < 10000) : KJ8_stringSize l g 1 0 [.int (nI k)] bg [] (fun v wd => v = some (.int (nI (digs k).length)) ∧ wd = []) := by
  rw [digs_len]
  refine Ctr.of [some (.int (nI k)), none, none, none] hG (by decide +kernel) rfl (Nat.le_of_ble_eq_true rfl) (fun Y hl hN0 o r hIni => ?_)
  subst hl
  have hN : ∀ i, i < 4 → i < yN Y := fun i h => by rw [hN0]; exact h
  refine j_iconst o (nI 1) dJ8_stringSize_0 (by decide) (q := 1) rfl ?_
  refine j_ist1 o dJ8_stringSize_1 rfl (hN 1 (Nat.le_of_ble_eq_true rfl)) (q := 2) rfl ?_
  refine j_ild_n o dJ8_stringSize_2 rfl (q := 3) rfl ?_
  refine j_ifltF o (t := 11) dJ8_stringSize_3 (by decide) (q := 6) rfl (nI_pos (by omega)) ?_
  refine j_iconst o (nI 0) dJ8_stringSize_6 (by decide) (q := 7) rfl ?_
  refine j_ist1 o dJ8_stringSize_7 rfl (hN 1 (Nat.le_of_ble_eq_true rfl)) (q := 8) rfl ?_
  refine j_ild_n o dJ8_stringSize_8 rfl (q := 9) rfl ?_
  refine j_ineg o dJ8_stringSize_9 (q := 10) rfl ?_
  refine j_ist0 o dJ8_stringSize_10 (hN 0 (Nat.le_of_ble_eq_true rfl)) (q := 11) rfl ?_
  refine j_bipush o (-10) dJ8_stringSize_11 (by decide) (q := 13) rfl ?_
  refine j_ist2 o dJ8_stringSize_13 rfl (hN 2 (Nat.le_of_ble_eq_true rfl)) (q := 14) rfl ?_
  refine j_iconst o (nI 1) dJ8_stringSize_14 (by decide) (q := 15) rfl ?_
  refine j_ist3 o dJ8_stringSize_15 rfl (hN 3 (Nat.le_of_ble_eq_true rfl)) (q := 16) rfl ?_
  refine j_ild_n o dJ8_stringSize_16 rfl (q := 17) rfl ?_
  refine j_bipush o (nI 10) dJ8_stringSize_17 (by decide) (q := 19) rfl ?_
  refine j_icgeF o (t := 42) dJ8_stringSize_19 (by decide) (q := 22) rfl (by decide) ?_
  refine j_ild_n o dJ8_stringSize_22 rfl (q := 23) rfl ?_
  refine j_ild_n o dJ8_stringSize_23 rfl (q := 24) rfl ?_
  rw [show (-10 : Int32) = -(nI 10) from rfl]
  by_cases h1 : k < 10
  · refine j_icleF o (t := 31) dJ8_stringSize_24 (by decide) (q := 27) rfl (by rw [ng_le (by omega) (by omega)]; omega) ?_
    refine j_ild_n o dJ8_stringSize_27 rfl (q := 28) rfl ?_
    refine j_ild_n o dJ8_stringSize_28 rfl (q := 29) rfl ?_
    refine j_iadd o dJ8_stringSize_29 (q := 30) rfl ?_
    refine j_topi o (nI 1) (rfl) ?_
    exact j_ret o r dJ8_stringSize_30 rfl [] _ rfl (⟨by rw [if_pos h1], rfl⟩) (by omega)
  refine j_icleT o 31 dJ8_stringSize_24 (by decide) (by rw [ng_le (by omega) (by omega)]; omega) ?_
  refine j_bipush o (nI 10) dJ8_stringSize_31 (by decide) (q := 33) rfl ?_
  refine j_ild_n o dJ8_stringSize_33 rfl (q := 34) rfl ?_
  refine j_imul o dJ8_stringSize_34 (q := 35) rfl ?_
  refine j_topi o (-(nI 100)) (rfl) ?_
  refine j_ist2 o dJ8_stringSize_35 rfl (hN 2 (Nat.le_of_ble_eq_true rfl)) (q := 36) rfl ?_
  refine j_inc3 o (nI 2) dJ8_stringSize_36 (by first | exact nI_1 _ | exact pk_m1 _ | rfl) rfl (q := 39) rfl ?_
  refine j_goto o 16 dJ8_stringSize_39 (by decide) ?_
  refine j_ild_n o dJ8_stringSize_16 rfl (q := 17) rfl ?_
  refine j_bipush o (nI 10) dJ8_stringSize_17 (by decide) (q := 19) rfl ?_
  refine j_icgeF o (t := 42) dJ8_stringSize_19 (by decide) (q := 22) rfl (by decide) ?_
  refine j_ild_n o dJ8_stringSize_22 rfl (q := 23) rfl ?_
  refine j_ild_n o dJ8_stringSize_23 rfl (q := 24) rfl ?_
  by_cases h2 : k < 100
  · refine j_icleF o (t := 31) dJ8_stringSize_24 (by decide) (q := 27) rfl (by rw [ng_le (by omega) (by omega)]; omega) ?_
    refine j_ild_n o dJ8_stringSize_27 rfl (q := 28) rfl ?_
    refine j_ild_n o dJ8_stringSize_28 rfl (q := 29) rfl ?_
    refine j_iadd o dJ8_stringSize_29 (q := 30) rfl ?_
    refine j_topi o (nI 2) (rfl) ?_
    exact j_ret o r dJ8_stringSize_30 rfl [] _ rfl (⟨by rw [if_neg h1, if_pos h2], rfl⟩) (by omega)
  refine j_icleT o 31 dJ8_stringSize_24 (by decide) (by rw [ng_le (by omega) (by omega)]; omega) ?_
  refine j_bipush o (nI 10) dJ8_stringSize_31 (by decide) (q := 33) rfl ?_
  refine j_ild_n o dJ8_stringSize_33 rfl (q := 34) rfl ?_
  refine j_imul o dJ8_stringSize_34 (q := 35) rfl ?_
  refine j_topi o (-(nI 1000)) (rfl) ?_
  refine j_ist2 o dJ8_stringSize_35 rfl (hN 2 (Nat.le_of_ble_eq_true rfl)) (q := 36) rfl ?_
  refine j_inc3 o (nI 3) dJ8_stringSize_36 (by first | exact nI_1 _ | exact pk_m1 _ | rfl) rfl (q := 39) rfl ?_
  refine j_goto o 16 dJ8_stringSize_39 (by decide) ?_
  refine j_ild_n o dJ8_stringSize_16 rfl (q := 17) rfl ?_
  refine j_bipush o (nI 10) dJ8_stringSize_17 (by decide) (q := 19) rfl ?_
  refine j_icgeF o (t := 42) dJ8_stringSize_19 (by decide) (q := 22) rfl (by decide) ?_
  refine j_ild_n o dJ8_stringSize_22 rfl (q := 23) rfl ?_
  refine j_ild_n o dJ8_stringSize_23 rfl (q := 24) rfl ?_
  by_cases h3 : k < 1000
  · refine j_icleF o (t := 31) dJ8_stringSize_24 (by decide) (q := 27) rfl (by rw [ng_le (by omega) (by omega)]; omega) ?_
    refine j_ild_n o dJ8_stringSize_27 rfl (q := 28) rfl ?_
    refine j_ild_n o dJ8_stringSize_28 rfl (q := 29) rfl ?_
    refine j_iadd o dJ8_stringSize_29 (q := 30) rfl ?_
    refine j_topi o (nI 3) (rfl) ?_
    exact j_ret o r dJ8_stringSize_30 rfl [] _ rfl (⟨by rw [if_neg h1, if_neg h2, if_pos h3], rfl⟩) (by omega)
  refine j_icleT o 31 dJ8_stringSize_24 (by decide) (by rw [ng_le (by omega) (by omega)]; omega) ?_
  refine j_bipush o (nI 10) dJ8_stringSize_31 (by decide) (q := 33) rfl ?_
  refine j_ild_n o dJ8_stringSize_33 rfl (q := 34) rfl ?_
  refine j_imul o dJ8_stringSize_34 (q := 35) rfl ?_
  refine j_topi o (-(nI 10000)) (rfl) ?_
  refine j_ist2 o dJ8_stringSize_35 rfl (hN 2 (Nat.le_of_ble_eq_true rfl)) (q := 36) rfl ?_
  refine j_inc3 o (nI 4) dJ8_stringSize_36 (by first | exact nI_1 _ | exact pk_m1 _ | rfl) rfl (q := 39) rfl ?_
  refine j_goto o 16 dJ8_stringSize_39 (by decide) ?_
  refine j_ild_n o dJ8_stringSize_16 rfl (q := 17) rfl ?_
  refine j_bipush o (nI 10) dJ8_stringSize_17 (by decide) (q := 19) rfl ?_
  refine j_icgeF o (t := 42) dJ8_stringSize_19 (by decide) (q := 22) rfl (by decide) ?_
  refine j_ild_n o dJ8_stringSize_22 rfl (q := 23) rfl ?_
  refine j_ild_n o dJ8_stringSize_23 rfl (q := 24) rfl ?_
  refine j_icleF o (t := 31) dJ8_stringSize_24 (by decide) (q := 27) rfl (by rw [ng_le (by omega) (by omega)]; omega) ?_
  refine j_ild_n o dJ8_stringSize_27 rfl (q := 28) rfl ?_
  refine j_ild_n o dJ8_stringSize_28 rfl (q := 29) rfl ?_
  refine j_iadd o dJ8_stringSize_29 (q := 30) rfl ?_
  refine j_topi o (nI 4) (rfl) ?_
  exact j_ret o r dJ8_stringSize_30 rfl [] _ rfl (⟨by rw [if_neg h1, if_neg h2, if_neg h3], rfl⟩) (by omega)
theorem ctJ8_getChars {l : Launch} {g : jG} (hG : GS l g) (bg : va_W) {k n b cap : Nat} {f : Nat → Int32} (hk : k < 10000) (hc : n + (digs k).length ≤ cap) (h9 : cap < 2 ^ 20) (hf : ∀ i, i < cap → Jvm.fits .byte (.int (f i)) = true) : KJ8_getChars l g 1 0 [.int (nI k), .int (nI (n + (digs k).length)), .ref b] bg [[(b, eA g 2 cap f)]] (fun v wd => (∃ z, v = some (.int z)) ∧ ∃ f2, wd = [[(b, eA g 2 cap f2)]] ∧ (∀ i x, (digs k)[i]? = some x → f2 (n + i) = nI x) ∧ (∀ j, j < n → f2 j = f j) ∧ ∀ i, i < cap → Jvm.fits .byte (.int (f2 i)) = true) := by
  have upf : ∀ (f : Nat → Int32) (p d : Nat), d < 128 → (∀ i, i < cap → Jvm.fits .byte (.int (f i)) = true) → ∀ i, i < cap → Jvm.fits .byte (.int (upd f p (nI d) i)) = true := by
    intro f p d hd h i hi
    unfold upd
    split
    · exact fit_b d hd
    · exact h i hi
  refine Ctr.of [some (.int (nI k)), some (.int (nI (n + (digs k).length))), some (.ref b), none, none, none, none] hG (by decide +kernel) rfl (Nat.le_of_ble_eq_true rfl) (fun Y hl hN0 o r hIni => ?_)
  subst hl
  have hN : ∀ i, i < 7 → i < yN Y := fun i h => by rw [hN0]; exact h
  have tail : ∀ (m rp : Nat) (f2 : Nat → Int32) (y3 y4 : Option Value), jc1 y4 = true → m < 100 → rp + (if m < 10 then 1 else 2) ≤ cap → (∀ i, i < cap → Jvm.fits .byte (.int (f2 i)) = true) → (∀ f3 : Nat → Int32, (∀ i, i < cap → Jvm.fits .byte (.int (f3 i)) = true) → (∀ j, j < rp ∨ rp + (if m < 10 then 1 else 2) ≤ j → f3 j = f2 j) → (if m < 10 then f3 rp = nI (48 + m) else f3 rp = nI (48 + m / 10) ∧ f3 (rp + 1) = nI (48 + m % 10)) → (∀ i x, (digs k)[i]? = some x → f3 (n + i) = nI x) ∧ (∀ j, j < n → f3 j = f j)) → J g Y [[(b, eA g 2 cap f2)]] 0 72 [some (.int (-(nI m))), some (.int (nI (n + (digs k).length))), some (.ref b), y3, y4, some (.int (nI (rp + (if m < 10 then 1 else 2)))), some (.int (nI 0))] [] := by
    intro m rp f2 y3 y4 hy4 hm hr hf2 hpost
    by_cases h1 : m < 10
    · rw [if_pos h1] at hr hpost ⊢
      refine j_ald_n o dJ8_getChars_72 rfl rfl (q := 73) rfl ?_
      refine j_inc5 o (nI rp) dJ8_getChars_73 (pk_m1 _) hy4 (q := 76) rfl ?_
      refine j_ild o dJ8_getChars_76 rfl (q := 78) rfl ?_
      refine j_gs o dJ8_getChars_78 o.kf.2.2.2.2.2.2.2.2.1 q863 (q := 81) rfl ?_
      refine j_ild_n o dJ8_getChars_81 rfl (q := 82) rfl ?_
      refine j_ineg o dJ8_getChars_82 (q := 83) rfl ?_
      refine j_topi o (nI m) (ng_ng _) ?_
      refine j_tb o dJ8_getChars_83 o.kf.2.2.2.2.2.2.2.2.2.1 (show m < 100 by omega) (by omega) (show _ = Value.int (nI (48 + m)) by show Value.int (nI (48 + m % 10)) = _; rw [Nat.mod_eq_of_lt h1]) (q := 84) rfl ?_
      refine j_bast o dJ8_getChars_84 0 0 rfl rfl (by omega) (by omega) (nar_b _ (by omega)) (q := 85) rfl ?_
      dsimp only [List.set]
      refine j_ild_n o dJ8_getChars_85 rfl (q := 86) rfl ?_
      refine j_bipush o (-9) dJ8_getChars_86 (by decide) (q := 88) rfl ?_
      rw [show (-9 : Int32) = -(nI 9) from rfl]
      refine j_icgeT o 104 dJ8_getChars_88 (by decide) (by rw [ng_le (by omega) (by omega)]; omega) ?_
      refine j_ild o dJ8_getChars_104 rfl (q := 106) rfl ?_
      refine j_ifeqT o 118 dJ8_getChars_106 (by decide) rfl ?_
      refine j_ild o dJ8_getChars_118 rfl (q := 120) rfl ?_
      have hp := hpost (upd f2 rp (nI (48 + m))) (upf f2 rp _ (by omega) hf2) (fun j hj => by unfold upd; rw [if_neg (by omega)]) (by rw [if_pos h1]; unfold upd; rw [if_pos rfl])
      exact j_ret o r dJ8_getChars_120 rfl [_] _ rfl (⟨⟨_, rfl⟩, _, rfl, hp.1, hp.2, upf f2 rp _ (by omega) hf2⟩) (by omega)
    · rw [if_neg h1] at hr hpost ⊢
      refine j_ald_n o dJ8_getChars_72 rfl rfl (q := 73) rfl ?_
      refine j_inc5 o (nI (rp + 1)) dJ8_getChars_73 (pk_m1 _) hy4 (q := 76) rfl ?_
      refine j_ild o dJ8_getChars_76 rfl (q := 78) rfl ?_
      refine j_gs o dJ8_getChars_78 o.kf.2.2.2.2.2.2.2.2.1 q863 (q := 81) rfl ?_
      refine j_ild_n o dJ8_getChars_81 rfl (q := 82) rfl ?_
      refine j_ineg o dJ8_getChars_82 (q := 83) rfl ?_
      refine j_topi o (nI m) (ng_ng _) ?_
      refine j_tb o dJ8_getChars_83 o.kf.2.2.2.2.2.2.2.2.2.1 (show m < 100 by omega) (by omega) (show _ = Value.int (nI (48 + m % 10)) from rfl) (q := 84) rfl ?_
      refine j_bast o dJ8_getChars_84 0 0 rfl rfl (by omega) (by omega) (nar_b _ (by omega)) (q := 85) rfl ?_
      dsimp only [List.set]
      refine j_ild_n o dJ8_getChars_85 rfl (q := 86) rfl ?_
      refine j_bipush o (-9) dJ8_getChars_86 (by decide) (q := 88) rfl ?_
      rw [show (-9 : Int32) = -(nI 9) from rfl]
      refine j_icgeF o (t := 104) dJ8_getChars_88 (by decide) (q := 91) rfl (by rw [ng_le (by omega) (by omega)]; omega) ?_
      refine j_ald_n o dJ8_getChars_91 rfl rfl (q := 92) rfl ?_
      refine j_inc5 o (nI rp) dJ8_getChars_92 (pk_m1 _) hy4 (q := 95) rfl ?_
      refine j_ild o dJ8_getChars_95 rfl (q := 97) rfl ?_
      refine j_gs o dJ8_getChars_97 o.kf.2.2.2.2.2.2.2.2.2.2.1 q865 (q := 100) rfl ?_
      refine j_ild_n o dJ8_getChars_100 rfl (q := 101) rfl ?_
      refine j_ineg o dJ8_getChars_101 (q := 102) rfl ?_
      refine j_topi o (nI m) (ng_ng _) ?_
      refine j_tb o dJ8_getChars_102 o.kf.2.2.2.2.2.2.2.2.2.2.2.1 (show m < 100 by omega) (by omega) (show _ = Value.int (nI (48 + m / 10)) from rfl) (q := 103) rfl ?_
      refine j_bast o dJ8_getChars_103 0 0 rfl rfl (by omega) (by omega) (nar_b _ (by omega)) (q := 104) rfl ?_
      dsimp only [List.set]
      refine j_ild o dJ8_getChars_104 rfl (q := 106) rfl ?_
      refine j_ifeqT o 118 dJ8_getChars_106 (by decide) rfl ?_
      refine j_ild o dJ8_getChars_118 rfl (q := 120) rfl ?_
      have hf3 := upf (upd f2 (rp + 1) (nI (48 + m % 10))) rp (48 + m / 10) (by omega) (upf f2 (rp + 1) _ (by omega) hf2)
      have hp := hpost (upd (upd f2 (rp + 1) (nI (48 + m % 10))) rp (nI (48 + m / 10))) hf3 (fun j hj => by unfold upd; rw [if_neg (by omega), if_neg (by omega)]) (by
        rw [if_neg h1]
        unfold upd
        refine ⟨if_pos rfl, ?_⟩
        rw [if_neg (by omega), if_pos rfl])
      exact j_ret o r dJ8_getChars_120 rfl [_] _ rfl (⟨⟨_, rfl⟩, _, rfl, hp.1, hp.2, hf3⟩) (by omega)
  refine j_ild_n o dJ8_getChars_0 rfl (q := 1) rfl ?_
  refine j_ist5 o dJ8_getChars_1 rfl (hN 5 (Nat.le_of_ble_eq_true rfl)) (q := 3) rfl ?_
  refine j_ild_n o dJ8_getChars_3 rfl (q := 4) rfl ?_
  refine j_ifgeT o 11 dJ8_getChars_4 (by decide) (nI_pos' (by omega)) ?_
  refine j_iconst o (nI 0) dJ8_getChars_11 (by decide) (q := 12) rfl ?_
  refine j_ist6 o dJ8_getChars_12 rfl (hN 6 (Nat.le_of_ble_eq_true rfl)) (q := 14) rfl ?_
  refine j_ild o dJ8_getChars_14 rfl (q := 16) rfl ?_
  refine j_ifneF o (t := 22) dJ8_getChars_16 (by decide) (q := 19) rfl (by decide) ?_
  refine j_ild_n o dJ8_getChars_19 rfl (q := 20) rfl ?_
  refine j_ineg o dJ8_getChars_20 (q := 21) rfl ?_
  refine j_ist0 o dJ8_getChars_21 (hN 0 (Nat.le_of_ble_eq_true rfl)) (q := 22) rfl ?_
  refine j_ild_n o dJ8_getChars_22 rfl (q := 23) rfl ?_
  refine j_bipush o (-100) dJ8_getChars_23 (by decide) (q := 25) rfl ?_
  rw [show (-100 : Int32) = -(nI 100) from rfl]
  have hdl := digs_len k
  by_cases h2 : k < 100
  · have e1 : (digs k).length = if k < 10 then 1 else 2 := by
      rw [hdl]
      split
      · rfl
      · rfl
    refine j_icgtT o 72 dJ8_getChars_25 (by decide) (by rw [ng_lt (by omega) (by omega)]; omega) ?_
    have h0 := tail k n f none none rfl h2 (by omega) hf (fun f3 a1 a2 a3 => ⟨fun i x hx => by
      unfold digs at hx
      split at hx
      · rename_i h3
        rw [if_pos h3] at a3
        match i, hx with
        | 0, hx => cases hx; exact a3
      · rename_i h3
        rw [if_neg h3] at a3
        match i, hx with
        | 0, hx => cases hx; exact a3.1
        | 1, hx => cases hx; exact a3.2, fun j hj => a2 j (Or.inl hj)⟩)
    rw [← e1] at h0
    exact h0
  · have hm : k / 100 < 100 := by omega
    have hm0 : k % 100 < 100 := Nat.mod_lt _ (by omega)
    have e1 : (digs k).length = (if k / 100 < 10 then 1 else 2) + 2 := by
      rw [hdl]
      by_cases h3 : k < 1000
      · rw [if_neg (by omega), if_neg h2, if_pos h3, if_pos (by omega)]
      · rw [if_neg (by omega), if_neg h2, if_neg h3, if_neg (by omega)]
    have hm1 : 1 ≤ if k / 100 < 10 then 1 else 2 := by split <;> omega
    generalize hD : (if k / 100 < 10 then 1 else 2) = D at e1 hm1
    refine j_icgtF o (t := 72) dJ8_getChars_25 (by decide) (q := 28) rfl (by rw [ng_lt (by omega) (by omega)]; omega) ?_
    refine j_ild_n o dJ8_getChars_28 rfl (q := 29) rfl ?_
    refine j_bipush o (nI 100) dJ8_getChars_29 (by decide) (q := 31) rfl ?_
    refine j_idiv o dJ8_getChars_31 (by decide) (q := 32) rfl ?_
    refine j_topi o (-(nI (k / 100))) (ng_div (by omega)) ?_
    refine j_ist3 o dJ8_getChars_32 rfl (hN 3 (Nat.le_of_ble_eq_true rfl)) (q := 33) rfl ?_
    refine j_ild_n o dJ8_getChars_33 rfl (q := 34) rfl ?_
    refine j_bipush o (nI 100) dJ8_getChars_34 (by decide) (q := 36) rfl ?_
    refine j_imul o dJ8_getChars_36 (q := 37) rfl ?_
    refine j_ild_n o dJ8_getChars_37 rfl (q := 38) rfl ?_
    refine j_isub o dJ8_getChars_38 (q := 39) rfl ?_
    refine j_topi o (nI (k % 100)) (ng_rem (by omega)) ?_
    refine j_ist4 o dJ8_getChars_39 rfl (hN 4 (Nat.le_of_ble_eq_true rfl)) (q := 41) rfl ?_
    refine j_ild_n o dJ8_getChars_41 rfl (q := 42) rfl ?_
    refine j_ist0 o dJ8_getChars_42 (hN 0 (Nat.le_of_ble_eq_true rfl)) (q := 43) rfl ?_
    refine j_ald_n o dJ8_getChars_43 rfl rfl (q := 44) rfl ?_
    refine j_inc5 o (nI (n + D + 1)) dJ8_getChars_44 (by rw [e1]; exact pk_m1 (n + D + 1)) rfl (q := 47) rfl ?_
    refine j_ild o dJ8_getChars_47 rfl (q := 49) rfl ?_
    refine j_gs o dJ8_getChars_49 o.kf.2.2.2.2.2.2.2.2.1 q863 (q := 52) rfl ?_
    refine j_ild o dJ8_getChars_52 rfl (q := 54) rfl ?_
    refine j_tb o dJ8_getChars_54 o.kf.2.2.2.2.2.2.2.2.2.1 hm0 (by omega) (show _ = Value.int (nI (48 + k % 100 % 10)) from rfl) (q := 55) rfl ?_
    refine j_bast o dJ8_getChars_55 0 0 rfl rfl (by omega) (by omega) (nar_b _ (by omega)) (q := 56) rfl ?_
    dsimp only [List.set]
    refine j_ald_n o dJ8_getChars_56 rfl rfl (q := 57) rfl ?_
    refine j_inc5 o (nI (n + D)) dJ8_getChars_57 (pk_m1 _) rfl (q := 60) rfl ?_
    refine j_ild o dJ8_getChars_60 rfl (q := 62) rfl ?_
    refine j_gs o dJ8_getChars_62 o.kf.2.2.2.2.2.2.2.2.2.2.1 q865 (q := 65) rfl ?_
    refine j_ild o dJ8_getChars_65 rfl (q := 67) rfl ?_
    refine j_tb o dJ8_getChars_67 o.kf.2.2.2.2.2.2.2.2.2.2.2.1 hm0 (by omega) (show _ = Value.int (nI (48 + k % 100 / 10)) from rfl) (q := 68) rfl ?_
    refine j_bast o dJ8_getChars_68 0 0 rfl rfl (by omega) (by omega) (nar_b _ (by omega)) (q := 69) rfl ?_
    dsimp only [List.set]
    refine j_goto o 22 dJ8_getChars_69 (by decide) ?_
    refine j_ild_n o dJ8_getChars_22 rfl (q := 23) rfl ?_
    refine j_bipush o (-100) dJ8_getChars_23 (by decide) (q := 25) rfl ?_
    rw [show (-100 : Int32) = -(nI 100) from rfl]
    refine j_icgtT o 72 dJ8_getChars_25 (by decide) (by rw [ng_lt (by omega) (by omega)]; omega) ?_
    have h0 := tail (k / 100) n (upd (upd f (n + D + 1) (nI (48 + k % 100 % 10))) (n + D) (nI (48 + k % 100 / 10))) (some (.int (-(nI (k / 100))))) (some (.int (nI (k % 100)))) rfl hm (by rw [hD]; omega) (upf _ _ _ (by omega) (upf _ _ _ (by omega) hf)) (fun f3 a1 a2 a3 => ⟨fun i x hx => by
      rw [hD] at a2
      have b1 : f3 (n + D) = nI (48 + k % 100 / 10) := by
        rw [a2 _ (Or.inr (Nat.le_refl _))]
        unfold upd
        rw [if_pos rfl]
      have b2 : f3 (n + D + 1) = nI (48 + k % 100 % 10) := by
        rw [a2 _ (Or.inr (by omega))]
        unfold upd
        rw [if_neg (by omega), if_pos rfl]
      unfold digs at hx
      rw [if_neg (by omega), if_neg h2] at hx
      by_cases h3 : k < 1000
      · rw [if_pos h3] at hx
        rw [if_pos (by omega)] at hD a3
        subst hD
        match i, hx with
        | 0, hx => cases hx; exact a3
        | 1, hx => cases hx; exact b1
        | 2, hx => cases hx; exact b2
      · rw [if_neg h3] at hx
        rw [if_neg (by omega)] at hD a3
        subst hD
        match i, hx with
        | 0, hx => cases hx; exact a3.1
        | 1, hx => cases hx; exact a3.2
        | 2, hx => cases hx; exact b1
        | 3, hx => cases hx; exact b2, fun j hj => by
      rw [hD] at a2
      rw [a2 j (Or.inl hj)]
      unfold upd
      rw [if_neg (by omega), if_neg (by omega)]⟩)
    rw [hD] at h0
    exact h0

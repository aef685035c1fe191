/-! THE DESK, third: forwarding -/
set_option maxRecDepth 100000
/-- where bucket b sends hash h on to, of n buckets -/
def fwd (n b h : Nat) : Nat := if b < h % 2 ^ dpt n b ∧ h % 2 ^ dpt n b < h % (2 * 2 ^ dpt n b) ∧ h % (2 * 2 ^ dpt n b) ≠ b then h % 2 ^ dpt n b else h % (2 * 2 ^ dpt n b)
theorem ctX1_forwarded {l : Launch} {g : jG} (hG : GS l g) (bg : va_W) {x f k lg cl io mk q sz hs bl tk nn b h : Nat} {n : N7} {F : K5} (hx : (x, dkO n f k lg cl io mk) ∈ bg) (hq : (f, stO F (lvl nn) (ptr nn) sz hs bl tk) ∈ bg) (h2 : 2 ≤ nn) (h64 : nn ≤ 64) (hb : b < 2 ^ 10) (hh : h < 2 ^ 20) : KX1_forwarded l g 3 0 [.ref x, .int (nI b), .int (nI h)] bg [] (fun v wd => v = some (.int (nI (fwd nn b h))) ∧ wd = []) := by
  have hlv := lvl_lt h64
  have hpl := ptr_le (n := nn)
  have hdp := dpt_le (b := b) h64
  have hp2 : 2 ^ dpt nn b ≤ 2 ^ 20 := Nat.pow_le_pow_right (by omega) hdp
  have hp0 := Nat.two_pow_pos (dpt nn b)
  have hde : dpt nn b = lvl nn + if b < ptr nn ∨ 2 * 2 ^ lvl nn ≤ b then 1 else 0 := by rw [bse_lvl h2]; rfl
  have ht : h % (2 * 2 ^ dpt nn b) ≤ h := Nat.mod_le _ _
  have hl : h % 2 ^ dpt nn b ≤ h := Nat.mod_le _ _
  refine Ctr.of [some (.ref x), some (.int (nI b)), some (.int (nI h)), none, none, none] hG (by decide +kernel) rfl (Nat.le_of_ble_eq_true rfl) (fun Y hl hN0 o r hI => ?_)
  subst hl
  have hN : ∀ i, i < 6 → i < yN Y := fun i h => by rw [hN0]; exact h
  refine j_ald_n o dX1_forwarded_0 rfl rfl (q := 1) rfl ?_
  refine j_gf o dX1_forwarded_1 (jb hx) kcX1 7 (Nat.le_of_ble_eq_true rfl) q360 rfl (q := 4) rfl ?_
  refine j_ild_n o dX1_forwarded_4 rfl (q := 5) rfl ?_
  refine j_callV0 o (ctX2_depth hG _ (F := F) (jmr hq) hlv (by omega) (by omega)) dX1_forwarded_5 q701 wdX2_depth mdX2_depth (jb hq) (by rfl) (by rfl) rfl (Nat.le_of_ble_eq_true rfl) (Nat.le_of_ble_eq_true rfl) (by omega) (Nat.le_of_ble_eq_true rfl) (q := 8) rfl (fun v wd hpost => ?_)
  obtain ⟨rfl, rfl⟩ := hpost
  dsimp only [List.cons_append, List.nil_append, Option.toList]
  rw [← hde]
  refine j_ist3 o dX1_forwarded_8 rfl (hN 3 (Nat.le_of_ble_eq_true rfl)) (q := 9) rfl ?_
  refine j_ild_n o dX1_forwarded_9 rfl (q := 10) rfl ?_
  refine j_iconst o (nI 2) dX1_forwarded_10 (by decide) (q := 11) rfl ?_
  refine j_ild_n o dX1_forwarded_11 rfl (q := 12) rfl ?_
  refine j_ishl o dX1_forwarded_12 (q := 13) rfl ?_
  refine j_topi o (nI (2 * 2 ^ dpt nn b)) (nI_shl (by omega) (by omega)) ?_
  refine j_irem o dX1_forwarded_13 (nI_n0 (by omega) (by omega)) (q := 14) rfl ?_
  refine j_topi o (nI (h % (2 * 2 ^ dpt nn b))) (nI_rem (by omega) (by omega) (by omega)) ?_
  refine j_ist4 o dX1_forwarded_14 rfl (hN 4 (Nat.le_of_ble_eq_true rfl)) (q := 16) rfl ?_
  refine j_ild o dX1_forwarded_16 rfl (q := 18) rfl ?_
  refine j_ild_n o dX1_forwarded_18 rfl (q := 19) rfl ?_
  refine j_iceq o 26 dX1_forwarded_19 (by decide) (q := 22) rfl (fun c => ?_) (fun c => ?_)
  · have c : h % (2 * 2 ^ dpt nn b) = b := (nI_eq (by omega) (by omega)).mp c
    refine j_ild o dX1_forwarded_26 rfl (q := 28) rfl ?_
    exact j_ret o r dX1_forwarded_28 rfl [] _ rfl (⟨by unfold fwd; rw [if_neg (fun e => e.2.2 c)], rfl⟩) (by omega)
  · have c : ¬ h % (2 * 2 ^ dpt nn b) = b := fun e => c (by rw [e])
    refine j_ild_n o dX1_forwarded_22 rfl (q := 23) rfl ?_
    refine j_ifne o 29 dX1_forwarded_23 (by decide) (q := 26) rfl (fun c2 => ?_) (fun c2 => ?_)
    · refine j_ild_n o dX1_forwarded_29 rfl (q := 30) rfl ?_
      refine j_iconst o (nI 1) dX1_forwarded_30 (by decide) (q := 31) rfl ?_
      refine j_ild_n o dX1_forwarded_31 rfl (q := 32) rfl ?_
      refine j_ishl o dX1_forwarded_32 (q := 33) rfl ?_
      refine j_topi o (nI (2 ^ dpt nn b)) ((by rw [nI_shl (by omega) (by omega), Nat.one_mul])) ?_
      refine j_irem o dX1_forwarded_33 (nI_n0 (by omega) (by omega)) (q := 34) rfl ?_
      refine j_topi o (nI (h % 2 ^ dpt nn b)) (nI_rem (by omega) (by omega) (by omega)) ?_
      refine j_ist5 o dX1_forwarded_34 rfl (hN 5 (Nat.le_of_ble_eq_true rfl)) (q := 36) rfl ?_
      refine j_ild o dX1_forwarded_36 rfl (q := 38) rfl ?_
      refine j_ild_n o dX1_forwarded_38 rfl (q := 39) rfl ?_
      refine j_icle o 54 dX1_forwarded_39 (by decide) (q := 42) rfl (fun c3 => ?_) (fun c3 => ?_)
      · rw [nI_leI (by omega) (by omega)] at c3
        refine j_ild o dX1_forwarded_54 rfl (q := 56) rfl ?_
        exact j_ret o r dX1_forwarded_56 rfl [] _ rfl (⟨by unfold fwd; rw [if_neg (fun e => by omega)], rfl⟩) (by omega)
      · rw [nI_leI (by omega) (by omega)] at c3
        refine j_ild o dX1_forwarded_42 rfl (q := 44) rfl ?_
        refine j_ild o dX1_forwarded_44 rfl (q := 46) rfl ?_
        refine j_icge o 54 dX1_forwarded_46 (by decide) (q := 49) rfl (fun c4 => ?_) (fun c4 => ?_)
        · rw [nI_leI (by omega) (by omega)] at c4
          refine j_ild o dX1_forwarded_54 rfl (q := 56) rfl ?_
          exact j_ret o r dX1_forwarded_56 rfl [] _ rfl (⟨by unfold fwd; rw [if_neg (fun e => by omega)], rfl⟩) (by omega)
        · rw [nI_leI (by omega) (by omega)] at c4
          refine j_ild o dX1_forwarded_49 rfl (q := 51) rfl ?_
          refine j_goto o 56 dX1_forwarded_51 (by decide) ?_
          exact j_ret o r dX1_forwarded_56 rfl [] _ rfl (⟨by unfold fwd; rw [if_pos ⟨by omega, by omega, c⟩], rfl⟩) (by omega)
    · have c2 : dpt nn b = 0 := (by
        apply Classical.byContradiction
        intro e
        exact nI_n0 (by omega) (by omega) c2)
      refine j_ild o dX1_forwarded_26 rfl (q := 28) rfl ?_
      exact j_ret o r dX1_forwarded_28 rfl [] _ rfl (⟨by unfold fwd; rw [if_neg (fun e => by rw [c2, Nat.pow_zero, Nat.mod_one] at e; omega)], rfl⟩) (by omega)

/-! THE DESK, fifth: what must be; its whole state -/
set_option maxRecDepth 100000
theorem isIn1 {k a b : Nat} (h : a ≤ k ∧ k ≤ b) (hb : b < 2 ^ 31) : (if nI a ≤ nI k ∧ nI k ≤ nI b then 1 else 0 : Nat) = 1 := if_pos ⟨(nI_leI (by omega) (by omega)).mpr h.1, (nI_leI (by omega) (by omega)).mpr h.2⟩
theorem isIn0 {x : Int32} {a b : Nat} (h : ¬ (nI a ≤ x ∧ x ≤ nI b)) : (if nI a ≤ x ∧ x ≤ nI b then 1 else 0 : Nat) = 0 := if_neg h
/-- between 0 and b, or not -/
def inI (b : Nat) (x : Int32) : Prop := nI 0 ≤ x ∧ x ≤ nI b
theorem inI_k {k b : Nat} (h : k ≤ b) (hb : b < 2 ^ 31) : inI b (nI k) := ⟨(nI_leI (by omega) (by omega)).mpr (Nat.zero_le _), (nI_leI (by omega) (by omega)).mpr h⟩
theorem inI_n {b : Nat} {x : Int32} (h : inI b x) (hb : b < 2 ^ 31) : ∃ k, x = nI k ∧ k ≤ b := by
  have h0 : (0 : Int) ≤ x.toInt := by
    have := Int32.le_iff_toInt_le.mp h.1
    exact this
  refine ⟨x.toInt.toNat, ?_, ?_⟩
  · have e : nI x.toInt.toNat = Int32.ofInt x.toInt := by
      show Int32.ofNat _ = _
      rw [← Int32.ofInt_eq_ofNat]
      congr 1
      omega
    rw [e, Int32.ofInt_toInt]
  · have h1 := Int32.le_iff_toInt_le.mp h.2
    rw [show nI b = Int32.ofNat b from rfl, Int32.toInt_ofNat_of_lt (by omega)] at h1
    omega
theorem ctX1_mustBeKey {l : Launch} {g : jG} (hG : GS l g) (bg : va_W) {k : Nat} (hk : k ≤ 9999) : KX1_mustBeKey l g 2 0 [.int (nI k)] bg [] (fun v wd => v = none ∧ wd = []) := by
  refine Ctr.of [some (.int (nI k))] hG (by decide +kernel) rfl (Nat.le_of_ble_eq_true rfl) (fun Y hl hN0 o r hI => ?_)
  subst hl
  have hN : ∀ i, i < 1 → i < yN Y := fun i h => by rw [hN0]; exact h
  refine j_ild_n o dX1_mustBeKey_0 rfl (q := 1) rfl ?_
  refine j_iconst o (nI 0) dX1_mustBeKey_1 (by decide) (q := 2) rfl ?_
  refine j_sipush o (nI 9999) dX1_mustBeKey_2 (by decide) (q := 5) rfl ?_
  refine j_callS0 o (ctX1_isIn hG _ _ _ _) dX1_mustBeKey_5 q1057 wdX1_isIn mdX1_isIn rfl (Nat.le_of_ble_eq_true rfl) (Nat.le_of_ble_eq_true rfl) (by omega) (Nat.le_of_ble_eq_true rfl) (q := 8) rfl (fun v wd hpost => ?_)
  obtain ⟨rfl, rfl⟩ := hpost
  dsimp only [List.cons_append, List.nil_append, Option.toList]
  rw [isIn1 ⟨Nat.zero_le _, hk⟩ (by omega)]
  refine j_callS0 o (ctX1_mustFit hG _ rfl) dX1_mustBeKey_8 q1060 wdX1_mustFit mdX1_mustFit rfl (Nat.le_of_ble_eq_true rfl) (Nat.le_of_ble_eq_true rfl) (by omega) (Nat.le_of_ble_eq_true rfl) (q := 11) rfl (fun v wd hpost => ?_)
  obtain ⟨rfl, rfl⟩ := hpost
  dsimp only [List.cons_append, List.nil_append, Option.toList]
  exact j_vret o r dX1_mustBeKey_11 [] _ rfl (⟨rfl, rfl⟩) (by omega)
theorem ctxX1_mustBeKey {l : Launch} {g : jG} (hG : GS l g) (bg : va_W) {x : Int32} (h : ¬ inI 9999 x) : EX1_mustBeKey l g 8 1 [.int x] bg xIAE := by
  refine CtrX.of [some (.int x)] hG (by decide +kernel) rfl (Nat.le_of_ble_eq_true rfl) (fun Y hl hN0 o r => ?_)
  subst hl
  have hN : ∀ i, i < 1 → i < yN Y := fun i h => by rw [hN0]; exact h
  refine j_ild_n o dX1_mustBeKey_0 rfl (q := 1) rfl ?_
  refine j_iconst o (nI 0) dX1_mustBeKey_1 (by decide) (q := 2) rfl ?_
  refine j_sipush o (nI 9999) dX1_mustBeKey_2 (by decide) (q := 5) rfl ?_
  refine j_callS0 o (ctX1_isIn hG _ _ _ _) dX1_mustBeKey_5 q1057 wdX1_isIn mdX1_isIn rfl (Nat.le_of_ble_eq_true rfl) (Nat.le_of_ble_eq_true rfl) (by omega) (Nat.le_of_ble_eq_true rfl) (q := 8) rfl (fun v wd hpost => ?_)
  obtain ⟨rfl, rfl⟩ := hpost
  dsimp only [List.cons_append, List.nil_append, Option.toList]
  rw [isIn0 h]
  exact j_callXS o (ctxX1_mustFit hG _) dX1_mustBeKey_8 q1060 wdX1_mustFit mdX1_mustFit rfl (Nat.le_of_ble_eq_true rfl) (Nat.le_of_ble_eq_true rfl) (by omega) (Nat.le_of_ble_eq_true rfl) (j_outX o r (by omega))
theorem ctX1_mustBeField {l : Launch} {g : jG} (hG : GS l g) (bg : va_W) {k : Nat} (hk : k ≤ 99) : KX1_mustBeField l g 2 0 [.int (nI k)] bg [] (fun v wd => v = none ∧ wd = []) := by
  refine Ctr.of [some (.int (nI k))] hG (by decide +kernel) rfl (Nat.le_of_ble_eq_true rfl) (fun Y hl hN0 o r hI => ?_)
  subst hl
  have hN : ∀ i, i < 1 → i < yN Y := fun i h => by rw [hN0]; exact h
  refine j_ild_n o dX1_mustBeField_0 rfl (q := 1) rfl ?_
  refine j_iconst o (nI 0) dX1_mustBeField_1 (by decide) (q := 2) rfl ?_
  refine j_bipush o (nI 99) dX1_mustBeField_2 (by decide) (q := 4) rfl ?_
  refine j_callS0 o (ctX1_isIn hG _ _ _ _) dX1_mustBeField_4 q1057 wdX1_isIn mdX1_isIn rfl (Nat.le_of_ble_eq_true rfl) (Nat.le_of_ble_eq_true rfl) (by omega) (Nat.le_of_ble_eq_true rfl) (q := 7) rfl (fun v wd hpost => ?_)
  obtain ⟨rfl, rfl⟩ := hpost
  dsimp only [List.cons_append, List.nil_append, Option.toList]
  rw [isIn1 ⟨Nat.zero_le _, hk⟩ (by omega)]
  refine j_callS0 o (ctX1_mustFit hG _ rfl) dX1_mustBeField_7 q1060 wdX1_mustFit mdX1_mustFit rfl (Nat.le_of_ble_eq_true rfl) (Nat.le_of_ble_eq_true rfl) (by omega) (Nat.le_of_ble_eq_true rfl) (q := 10) rfl (fun v wd hpost => ?_)
  obtain ⟨rfl, rfl⟩ := hpost
  dsimp only [List.cons_append, List.nil_append, Option.toList]
  exact j_vret o r dX1_mustBeField_10 [] _ rfl (⟨rfl, rfl⟩) (by omega)
theorem ctxX1_mustBeField {l : Launch} {g : jG} (hG : GS l g) (bg : va_W) {x : Int32} (h : ¬ inI 99 x) : EX1_mustBeField l g 8 1 [.int x] bg xIAE := by
  refine CtrX.of [some (.int x)] hG (by decide +kernel) rfl (Nat.le_of_ble_eq_true rfl) (fun Y hl hN0 o r => ?_)
  subst hl
  have hN : ∀ i, i < 1 → i < yN Y := fun i h => by rw [hN0]; exact h
  refine j_ild_n o dX1_mustBeField_0 rfl (q := 1) rfl ?_
  refine j_iconst o (nI 0) dX1_mustBeField_1 (by decide) (q := 2) rfl ?_
  refine j_bipush o (nI 99) dX1_mustBeField_2 (by decide) (q := 4) rfl ?_
  refine j_callS0 o (ctX1_isIn hG _ _ _ _) dX1_mustBeField_4 q1057 wdX1_isIn mdX1_isIn rfl (Nat.le_of_ble_eq_true rfl) (Nat.le_of_ble_eq_true rfl) (by omega) (Nat.le_of_ble_eq_true rfl) (q := 7) rfl (fun v wd hpost => ?_)
  obtain ⟨rfl, rfl⟩ := hpost
  dsimp only [List.cons_append, List.nil_append, Option.toList]
  rw [isIn0 h]
  exact j_callXS o (ctxX1_mustFit hG _) dX1_mustBeField_7 q1060 wdX1_mustFit mdX1_mustFit rfl (Nat.le_of_ble_eq_true rfl) (Nat.le_of_ble_eq_true rfl) (by omega) (Nat.le_of_ble_eq_true rfl) (j_outX o r (by omega))
theorem ctX1_mustBeCursor {l : Launch} {g : jG} (hG : GS l g) (bg : va_W) {k : Nat} (hk : k ≤ 2) : KX1_mustBeCursor l g 2 0 [.int (nI k)] bg [] (fun v wd => v = none ∧ wd = []) := by
  refine Ctr.of [some (.int (nI k))] hG (by decide +kernel) rfl (Nat.le_of_ble_eq_true rfl) (fun Y hl hN0 o r hI => ?_)
  subst hl
  have hN : ∀ i, i < 1 → i < yN Y := fun i h => by rw [hN0]; exact h
  refine j_ild_n o dX1_mustBeCursor_0 rfl (q := 1) rfl ?_
  refine j_iconst o (nI 0) dX1_mustBeCursor_1 (by decide) (q := 2) rfl ?_
  refine j_iconst o (nI 2) dX1_mustBeCursor_2 (by decide) (q := 3) rfl ?_
  refine j_callS0 o (ctX1_isIn hG _ _ _ _) dX1_mustBeCursor_3 q1057 wdX1_isIn mdX1_isIn rfl (Nat.le_of_ble_eq_true rfl) (Nat.le_of_ble_eq_true rfl) (by omega) (Nat.le_of_ble_eq_true rfl) (q := 6) rfl (fun v wd hpost => ?_)
  obtain ⟨rfl, rfl⟩ := hpost
  dsimp only [List.cons_append, List.nil_append, Option.toList]
  rw [isIn1 ⟨Nat.zero_le _, hk⟩ (by omega)]
  refine j_callS0 o (ctX1_mustBe hG _ rfl) dX1_mustBeCursor_6 q1227 wdX1_mustBe mdX1_mustBe rfl (Nat.le_of_ble_eq_true rfl) (Nat.le_of_ble_eq_true rfl) (by omega) (Nat.le_of_ble_eq_true rfl) (q := 9) rfl (fun v wd hpost => ?_)
  obtain ⟨rfl, rfl⟩ := hpost
  dsimp only [List.cons_append, List.nil_append, Option.toList]
  exact j_vret o r dX1_mustBeCursor_9 [] _ rfl (⟨rfl, rfl⟩) (by omega)
theorem ctxX1_mustBeCursor {l : Launch} {g : jG} (hG : GS l g) (bg : va_W) {x : Int32} (h : ¬ inI 2 x) : EX1_mustBeCursor l g 8 1 [.int x] bg xIOB := by
  refine CtrX.of [some (.int x)] hG (by decide +kernel) rfl (Nat.le_of_ble_eq_true rfl) (fun Y hl hN0 o r => ?_)
  subst hl
  have hN : ∀ i, i < 1 → i < yN Y := fun i h => by rw [hN0]; exact h
  refine j_ild_n o dX1_mustBeCursor_0 rfl (q := 1) rfl ?_
  refine j_iconst o (nI 0) dX1_mustBeCursor_1 (by decide) (q := 2) rfl ?_
  refine j_iconst o (nI 2) dX1_mustBeCursor_2 (by decide) (q := 3) rfl ?_
  refine j_callS0 o (ctX1_isIn hG _ _ _ _) dX1_mustBeCursor_3 q1057 wdX1_isIn mdX1_isIn rfl (Nat.le_of_ble_eq_true rfl) (Nat.le_of_ble_eq_true rfl) (by omega) (Nat.le_of_ble_eq_true rfl) (q := 6) rfl (fun v wd hpost => ?_)
  obtain ⟨rfl, rfl⟩ := hpost
  dsimp only [List.cons_append, List.nil_append, Option.toList]
  rw [isIn0 h]
  exact j_callXS o (ctxX1_mustBe hG _) dX1_mustBeCursor_6 q1227 wdX1_mustBe mdX1_mustBe rfl (Nat.le_of_ble_eq_true rfl) (Nat.le_of_ble_eq_true rfl) (by omega) (Nat.le_of_ble_eq_true rfl) (j_outX o r (by omega))
theorem ctX1_mustBeHashing {l : Launch} {g : jG} (hG : GS l g) (bg : va_W) {k m : Nat} (hk : k ≤ 1023) (hm : m ≤ 9) : KX1_mustBeHashing l g 2 0 [.int (nI k), .int (nI m)] bg [] (fun v wd => v = none ∧ wd = []) := by
  refine Ctr.of [some (.int (nI k)), some (.int (nI m))] hG (by decide +kernel) rfl (Nat.le_of_ble_eq_true rfl) (fun Y hl hN0 o r hI => ?_)
  subst hl
  have hN : ∀ i, i < 2 → i < yN Y := fun i h => by rw [hN0]; exact h
  refine j_ild_n o dX1_mustBeHashing_0 rfl (q := 1) rfl ?_
  refine j_iconst o (nI 0) dX1_mustBeHashing_1 (by decide) (q := 2) rfl ?_
  refine j_sipush o (nI 1023) dX1_mustBeHashing_2 (by decide) (q := 5) rfl ?_
  refine j_callS0 o (ctX1_isIn hG _ _ _ _) dX1_mustBeHashing_5 q1057 wdX1_isIn mdX1_isIn rfl (Nat.le_of_ble_eq_true rfl) (Nat.le_of_ble_eq_true rfl) (by omega) (Nat.le_of_ble_eq_true rfl) (q := 8) rfl (fun v wd hpost => ?_)
  obtain ⟨rfl, rfl⟩ := hpost
  dsimp only [List.cons_append, List.nil_append, Option.toList]
  rw [isIn1 ⟨Nat.zero_le _, hk⟩ (by omega)]
  refine j_ifeqF o (t := 25) dX1_mustBeHashing_8 (by decide) (q := 11) rfl (by decide) ?_
  refine j_ild_n o dX1_mustBeHashing_11 rfl (q := 12) rfl ?_
  refine j_iconst o (nI 0) dX1_mustBeHashing_12 (by decide) (q := 13) rfl ?_
  refine j_bipush o (nI 9) dX1_mustBeHashing_13 (by decide) (q := 15) rfl ?_
  refine j_callS0 o (ctX1_isIn hG _ _ _ _) dX1_mustBeHashing_15 q1057 wdX1_isIn mdX1_isIn rfl (Nat.le_of_ble_eq_true rfl) (Nat.le_of_ble_eq_true rfl) (by omega) (Nat.le_of_ble_eq_true rfl) (q := 18) rfl (fun v wd hpost => ?_)
  obtain ⟨rfl, rfl⟩ := hpost
  dsimp only [List.cons_append, List.nil_append, Option.toList]
  rw [isIn1 ⟨Nat.zero_le _, hm⟩ (by omega)]
  refine j_ifeqF o (t := 25) dX1_mustBeHashing_18 (by decide) (q := 21) rfl (by decide) ?_
  refine j_iconst o (nI 1) dX1_mustBeHashing_21 (by decide) (q := 22) rfl ?_
  refine j_goto o 26 dX1_mustBeHashing_22 (by decide) ?_
  refine j_callS0 o (ctX1_mustFit hG _ rfl) dX1_mustBeHashing_26 q1060 wdX1_mustFit mdX1_mustFit rfl (Nat.le_of_ble_eq_true rfl) (Nat.le_of_ble_eq_true rfl) (by omega) (Nat.le_of_ble_eq_true rfl) (q := 29) rfl (fun v wd hpost => ?_)
  obtain ⟨rfl, rfl⟩ := hpost
  dsimp only [List.cons_append, List.nil_append, Option.toList]
  exact j_vret o r dX1_mustBeHashing_29 [] _ rfl (⟨rfl, rfl⟩) (by omega)
theorem ctxX1_mustBeHashing {l : Launch} {g : jG} (hG : GS l g) (bg : va_W) {x y : Int32} (h : ¬ (inI 1023 x ∧ inI 9 y)) : EX1_mustBeHashing l g 8 1 [.int x, .int y] bg xIAE := by
  refine CtrX.of [some (.int x), some (.int y)] hG (by decide +kernel) rfl (Nat.le_of_ble_eq_true rfl) (fun Y hl hN0 o r => ?_)
  subst hl
  have hN : ∀ i, i < 2 → i < yN Y := fun i h => by rw [hN0]; exact h
  refine j_ild_n o dX1_mustBeHashing_0 rfl (q := 1) rfl ?_
  refine j_iconst o (nI 0) dX1_mustBeHashing_1 (by decide) (q := 2) rfl ?_
  refine j_sipush o (nI 1023) dX1_mustBeHashing_2 (by decide) (q := 5) rfl ?_
  refine j_callS0 o (ctX1_isIn hG _ _ _ _) dX1_mustBeHashing_5 q1057 wdX1_isIn mdX1_isIn rfl (Nat.le_of_ble_eq_true rfl) (Nat.le_of_ble_eq_true rfl) (by omega) (Nat.le_of_ble_eq_true rfl) (q := 8) rfl (fun v wd hpost => ?_)
  obtain ⟨rfl, rfl⟩ := hpost
  dsimp only [List.cons_append, List.nil_append, Option.toList]
  by_cases h1 : inI 1023 x
  · rw [show (if nI 0 ≤ x ∧ x ≤ nI 1023 then 1 else 0 : Nat) = 1 from if_pos h1]
    refine j_ifeqF o (t := 25) dX1_mustBeHashing_8 (by decide) (q := 11) rfl (by decide) ?_
    refine j_ild_n o dX1_mustBeHashing_11 rfl (q := 12) rfl ?_
    refine j_iconst o (nI 0) dX1_mustBeHashing_12 (by decide) (q := 13) rfl ?_
    refine j_bipush o (nI 9) dX1_mustBeHashing_13 (by decide) (q := 15) rfl ?_
    refine j_callS0 o (ctX1_isIn hG _ _ _ _) dX1_mustBeHashing_15 q1057 wdX1_isIn mdX1_isIn rfl (Nat.le_of_ble_eq_true rfl) (Nat.le_of_ble_eq_true rfl) (by omega) (Nat.le_of_ble_eq_true rfl) (q := 18) rfl (fun v wd hpost => ?_)
    obtain ⟨rfl, rfl⟩ := hpost
    dsimp only [List.cons_append, List.nil_append, Option.toList]
    rw [isIn0 (fun h2 => h ⟨h1, h2⟩)]
    refine j_ifeqT o 25 dX1_mustBeHashing_18 (by decide) (by decide) ?_
    refine j_iconst o (nI 0) dX1_mustBeHashing_25 (by decide) (q := 26) rfl ?_
    exact j_callXS o (ctxX1_mustFit hG _) dX1_mustBeHashing_26 q1060 wdX1_mustFit mdX1_mustFit rfl (Nat.le_of_ble_eq_true rfl) (Nat.le_of_ble_eq_true rfl) (by omega) (Nat.le_of_ble_eq_true rfl) (j_outX o r (by omega))
  · rw [isIn0 h1]
    refine j_ifeqT o 25 dX1_mustBeHashing_8 (by decide) (by decide) ?_
    refine j_iconst o (nI 0) dX1_mustBeHashing_25 (by decide) (q := 26) rfl ?_
    exact j_callXS o (ctxX1_mustFit hG _) dX1_mustBeHashing_26 q1060 wdX1_mustFit mdX1_mustFit rfl (Nat.le_of_ble_eq_true rfl) (Nat.le_of_ble_eq_true rfl) (by omega) (Nat.le_of_ble_eq_true rfl) (j_outX o r (by omega))

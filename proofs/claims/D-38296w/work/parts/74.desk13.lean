/-! THE DESK, thirteenth: a client asks -/
set_option maxRecDepth 100000
theorem pw_dvd {j m : Nat} (h : j ≤ m) : 2 ^ j ∣ 2 ^ m := Nat.pow_dvd_pow 2 h
theorem mod_lep {h j m : Nat} (hjm : j ≤ m) : h % 2 ^ j ≤ h % 2 ^ m := by
  rw [← Nat.mod_mod_of_dvd h (pw_dvd hjm)]
  exact Nat.mod_le _ _
theorem mod_eqp {h j m : Nat} (hjm : m ≤ j) (hl : h % 2 ^ j < 2 ^ m) : h % 2 ^ m = h % 2 ^ j := by
  rw [← Nat.mod_mod_of_dvd h (pw_dvd hjm)]
  exact Nat.mod_eq_of_lt hl
theorem fwd_ok {n a h j : Nat} (h2 : 2 ≤ n) (hn : a < n) (hj1 : 1 ≤ j) (hj : a = h % 2 ^ j) : a ≤ fwd n a h ∧ fwd n a h < n ∧ (∃ j2, 1 ≤ j2 ∧ fwd n a h = h % 2 ^ j2) ∧ (dpt n a = 0 → fwd n a h = a) := by
  have hB := bse_lvl h2
  have hpt := bse_ptr (n := n) (by omega)
  have hpl := ptr_lt (n := n) (by omega)
  have hx := Nat.two_pow_pos (lvl n)
  have p1 : 2 ^ (lvl n + 1) = bse n := by rw [Nat.pow_succ, Nat.mul_comm]; exact hB
  have p2 : 2 ^ (lvl n + 2) = 2 * bse n := by rw [Nat.pow_succ, p1, Nat.mul_comm]
  have jlt : a < 2 ^ j := by rw [hj]; exact Nat.mod_lt _ (Nat.two_pow_pos _)
  by_cases c : a < ptr n ∨ bse n ≤ a
  · have e0 : dpt n a = lvl n + 1 := by unfold dpt; rw [if_pos c]
    have e1 : 2 ^ dpt n a = bse n := by rw [e0, p1]
    have big : lvl n + 2 ≤ j → h % (2 * bse n) = a := fun hjj => by
      rw [← p2, mod_eqp hjj (by rw [← hj, p2]; omega), ← hj]
    have key : a ≤ h % (2 * bse n) := by
      by_cases hjj : lvl n + 2 ≤ j
      · rw [big hjj]
        exact Nat.le_refl _
      · rw [hj, ← p2]
        exact mod_lep (by omega)
    have key2 : bse n ≤ a → h % (2 * bse n) = a := fun hb => by
      refine big ?_
      apply Classical.byContradiction
      intro hjj
      have := Nat.pow_le_pow_right (n := 2) (by omega) (show j ≤ lvl n + 1 by omega)
      omega
    have hlo : h % bse n < bse n := Nat.mod_lt _ (by omega)
    unfold fwd
    rw [e1]
    split
    · rename_i hc
      exact ⟨by omega, by omega, ⟨lvl n + 1, by omega, by rw [p1]⟩, fun h0 => by omega⟩
    · rename_i hc
      refine ⟨key, ?_, ⟨lvl n + 2, by omega, by rw [p2]⟩, fun h0 => by omega⟩
      rcases mod_two (h := h) (b := bse n) (by omega) with e | e
      · omega
      · by_cases hta : h % (2 * bse n) = a
        · omega
        · have hla : h % bse n ≤ a := by
            apply Classical.byContradiction
            intro hl
            exact hc ⟨by omega, by omega, hta⟩
          rcases c with c | c
          · omega
          · exact absurd (key2 c) hta
  · have e0 : dpt n a = lvl n := by unfold dpt; rw [if_neg c]; rfl
    have ha : a < bse n := by omega
    have big : lvl n + 1 ≤ j → h % bse n = a := fun hjj => by
      rw [← p1, mod_eqp hjj (by rw [← hj, p1]; omega), ← hj]
    have key : a ≤ h % bse n := by
      by_cases hjj : lvl n + 1 ≤ j
      · rw [big hjj]
        exact Nat.le_refl _
      · rw [hj, ← p1]
        exact mod_lep (by omega)
    have hto : h % bse n < bse n := Nat.mod_lt _ (by omega)
    unfold fwd
    rw [e0, hB]
    split
    · rename_i hc
      have hl0 : 1 ≤ lvl n := by
        apply Classical.byContradiction
        intro h0
        have h1 : lvl n = 0 := by omega
        rw [h1, Nat.pow_zero, Nat.mod_one] at hc
        omega
      have hlo : h % 2 ^ lvl n < 2 ^ lvl n := Nat.mod_lt _ hx
      exact ⟨by omega, by omega, ⟨lvl n, hl0, rfl⟩, fun h0 => by omega⟩
    · refine ⟨key, by omega, ⟨lvl n + 1, by omega, by rw [p1]⟩, fun h0 => big (by omega)⟩
theorem adr_pw {n h : Nat} (h2 : 2 ≤ n) : ∃ j, 1 ≤ j ∧ adr n h = h % 2 ^ j := by
  have hB := bse_lvl h2
  have p1 : 2 ^ (lvl n + 1) = bse n := by rw [Nat.pow_succ, Nat.mul_comm]; exact hB
  have p2 : 2 ^ (lvl n + 2) = 2 * bse n := by rw [Nat.pow_succ, p1, Nat.mul_comm]
  unfold adr
  split
  · exact ⟨lvl n + 2, by omega, by rw [p2]⟩
  · exact ⟨lvl n + 1, by omega, by rw [p1]⟩
/-- how often a hash is sent on -/
def hopN (n h : Nat) : Nat → Nat → Nat
  | 0, _ => 0
  | d + 1, a => if fwd n a h = a then 0 else 1 + hopN n h d (fwd n a h)
theorem hopN_le (n h : Nat) : ∀ d a, hopN n h d a ≤ d := by
  intro d
  induction d with
  | zero => intro a; exact Nat.le_refl _
  | succ d ih =>
    intro a
    unfold hopN
    split
    · omega
    · have := ih (fwd n a h); omega
theorem hopN_pos {n h d a : Nat} (hp : 0 < hopN n h d a) : fwd n a h ≠ a := by
  cases d with
  | zero => exact absurd hp (Nat.lt_irrefl 0)
  | succ d =>
    unfold hopN at hp
    split at hp
    · exact absurd hp (Nat.lt_irrefl 0)
    · assumption
def nFw (n : N7) (a : Nat) : N7 := (n.1, n.2.1, n.2.2.1, n.2.2.2.1 + a, n.2.2.2.2)
abbrev aFst (D : Dk) (i k : Nat) : Nat := adr (dI D i) (fHs (dF D) k)
abbrev aHop (D : Dk) (i k : Nat) : Nat := hopN (fB (dF D)).length (fHs (dF D) k) (fB (dF D)).length (aFst D i k)
def lrn (n b : Nat) : Nat := min (2 ^ dpt n b + b + 1) (2 * 2 ^ dpt n b)
def dAsk (D : Dk) (i k : Nat) : Dk := if (fB (dF D)).length ≤ aFst D i k then (dN D, dF D, dK D, dA D, updf (dI D) i (fB (dF D)).length, dM D) else (nFw (dN D) (aHop D i k), dF D, dK D, dA D, (if 0 < aHop D i k then updf (dI D) i (lrn (fB (dF D)).length (aFst D i k)) else dI D), dM D)
def askA (D : Dk) (i k : Nat) : Nat := if (fB (dF D)).length ≤ aFst D i k then 3 else aHop D i k
/-- the three clients' cells, one of them taken out -/
theorem cl_open {c0 c1 c2 i c : Nat} {n : Nat → Nat} (hi : i ≤ 2) (hc : [c0, c1, c2][i]? = some c) : ∃ R : va_W, ([(c0, clO (n 0)), (c1, clO (n 1)), (c2, clO (n 2))] : va_W).Perm ((c, clO (n i)) :: R) ∧ ∀ m, ((c, clO m) :: R).Perm [(c0, clO (updf n i m 0)), (c1, clO (updf n i m 1)), (c2, clO (updf n i m 2))] := by
  match i, hi with
  | 0, _ => cases hc; exact ⟨[(c1, clO (n 1)), (c2, clO (n 2))], List.Perm.refl _, fun m => List.Perm.refl _⟩
  | 1, _ => cases hc; exact ⟨[(c0, clO (n 0)), (c2, clO (n 2))], List.Perm.swap _ _ _, fun m => List.Perm.swap _ _ _⟩
  | 2, _ => cases hc; exact ⟨[(c0, clO (n 0)), (c1, clO (n 1))], (List.perm_append_comm (l₁ := [(c0, clO (n 0)), (c1, clO (n 1))]) (l₂ := [(c2, clO (n 2))])), fun m => (List.perm_append_comm (l₁ := [(c2, clO m)]) (l₂ := [(c0, clO (n 0)), (c1, clO (n 1))]))⟩
theorem ctX1_ask {l : Launch} {g : jG} (hG : GS l g) (bg : va_W) {x i k : Nat} {D : Dk} {w : va_W} (hD : isD g x D w) (hI : InvD D) (hi : i ≤ 2) (hk : k ≤ 9999) : KX1_ask l g 5 0 [.ref x, .int (nI i), .int (nI k)] bg [w] (fun y wd => y = some (.int (nI (askA D i k))) ∧ ∃ w2, wd = [w2] ∧ isD g x (dAsk D i k) w2) := by
  obtain ⟨f2, k2, lg2, cl2, io2, mk2, hf2, hk2, ess2, essk2, xs2, d0, d1, d2, mv2, wl, wa, wf, we, wk, wke, wp, hp, hF, hE, h1x, hK, hG2, h2x, hA, hl9, ha, hm⟩ := hD
  obtain ⟨bl, tk, qs, r1, r2, r3, r4, r5, r6⟩ := isSt.r hF (S := wf) (fun _ h => h)
  obtain ⟨m5, b5, hz5, -⟩ := id r3
  obtain ⟨c, hc⟩ := cl_at (c0 := d0) (c1 := d1) (c2 := d2) hi
  obtain ⟨R, hR1, hR2⟩ := cl_open (n := dI D) hi hc
  have hfit := hI.1.1.1
  have n2 := hfit.2.2.1
  have n60 := hfit.2.2.2.1
  obtain ⟨hi2, hi9⟩ := hI.2.2.2.2.2.2.2.2.2.1 i
  have hhl := hsh_lt (fCh (dF D)) (fSd (dF D)) k
  have hhl2 : fHs (dF D) k < 1024 := hhl
  have hlv := lvl_lt (n := (fB (dF D)).length) (by omega)
  have hpl := ptr_le (n := (fB (dF D)).length)
  have hfl : aFst D i k < dI D i := adr_lt (by omega)
  refine Ctr.of [some (.ref x), some (.int (nI i)), some (.int (nI k)), none, none, none, none, none, none] hG (by decide +kernel) rfl (Nat.le_of_ble_eq_true rfl) (fun Y hl hN0 o r hIni => ?_)
  subst hl
  have hN : ∀ i, i < 9 → i < yN Y := fun i h => by rw [hN0]; exact h
  refine j_spP _ (hp) ?_
  dsimp only [List.cons_append, List.nil_append]
  refine j_mv4 ?_
  refine j_spP _ ((show List.Perm _ (jflat [[(c, clO (dI D i))], R]) from hR1)) ?_
  dsimp only [List.cons_append, List.nil_append]
  refine j_ald_n o dX1_ask_0 rfl rfl (q := 1) rfl ?_
  refine j_ild_n o dX1_ask_1 rfl (q := 2) rfl ?_
  refine j_callV0 o (ctX1_mustBeClient hG _ (n := dN D) (cs := [d0, d1, d2]) (jwl 2 rfl (List.mem_singleton.mpr rfl)) (jwl 5 rfl (List.mem_singleton.mpr rfl)) hi hc) dX1_ask_2 q1272 wdX1_mustBeClient mdX1_mustBeClient (jw 2 0 rfl rfl) (by rfl) (by rfl) rfl (Nat.le_of_ble_eq_true rfl) (Nat.le_of_ble_eq_true rfl) (by omega) (Nat.le_of_ble_eq_true rfl) (q := 5) rfl (fun v wd hpost => ?_)
  obtain ⟨rfl, rfl⟩ := hpost
  dsimp only [List.cons_append, List.nil_append, Option.toList]
  refine j_ast3 o dX1_ask_5 rfl rfl (hN 3 (Nat.le_of_ble_eq_true rfl)) (q := 6) rfl ?_
  refine j_ild_n o dX1_ask_6 rfl (q := 7) rfl ?_
  refine j_callS0 o (ctX1_mustBeKey hG _ hk) dX1_ask_7 q1153 wdX1_mustBeKey mdX1_mustBeKey rfl (Nat.le_of_ble_eq_true rfl) (Nat.le_of_ble_eq_true rfl) (by omega) (Nat.le_of_ble_eq_true rfl) (q := 10) rfl (fun v wd hpost => ?_)
  obtain ⟨rfl, rfl⟩ := hpost
  dsimp only [List.cons_append, List.nil_append, Option.toList]
  refine j_ald_n o dX1_ask_10 rfl rfl (q := 11) rfl ?_
  refine j_gf o dX1_ask_11 (jw 2 0 rfl rfl) kcX1 7 (Nat.le_of_ble_eq_true rfl) q360 rfl (q := 14) rfl ?_
  refine j_gf o dX1_ask_14 (jwm 8 rfl r1) kcX2 8 (Nat.le_of_ble_eq_true rfl) q308 rfl (q := 17) rfl ?_
  refine j_ild_n o dX1_ask_17 rfl (q := 18) rfl ?_
  refine j_callV0 o (ctX3_of hG _ (jwl 12 rfl h1x) hI.1.2.1 hI.1.2.2.1 (by omega)) dX1_ask_18 q646 wdX3_of mdX3_of (jwm 12 rfl h1x) (by rfl) (by rfl) rfl (Nat.le_of_ble_eq_true rfl) (Nat.le_of_ble_eq_true rfl) (by omega) (Nat.le_of_ble_eq_true rfl) (q := 21) rfl (fun v wd hpost => ?_)
  obtain ⟨rfl, rfl⟩ := hpost
  dsimp only [List.cons_append, List.nil_append, Option.toList]
  refine j_ist4 o dX1_ask_21 rfl (hN 4 (Nat.le_of_ble_eq_true rfl)) (q := 23) rfl ?_
  refine j_ald_n o dX1_ask_23 rfl rfl (q := 24) rfl ?_
  refine j_ild o dX1_ask_24 rfl (q := 26) rfl ?_
  refine j_callV0 o (ctX6_address hG _ (jwl 0 rfl (List.mem_singleton.mpr rfl)) hi2 hi9 (by omega)) dX1_ask_26 q1276 wdX6_address mdX6_address (jw 0 0 rfl rfl) (by rfl) (by rfl) rfl (Nat.le_of_ble_eq_true rfl) (Nat.le_of_ble_eq_true rfl) (by omega) (Nat.le_of_ble_eq_true rfl) (q := 29) rfl (fun v wd hpost => ?_)
  obtain ⟨rfl, rfl⟩ := hpost
  dsimp only [List.cons_append, List.nil_append, Option.toList]
  refine j_ist5 o dX1_ask_29 rfl (hN 5 (Nat.le_of_ble_eq_true rfl)) (q := 31) rfl ?_
  refine j_ild o dX1_ask_31 rfl (q := 33) rfl ?_
  refine j_ald_n o dX1_ask_33 rfl rfl (q := 34) rfl ?_
  refine j_gf o dX1_ask_34 (jw 2 0 rfl rfl) kcX1 7 (Nat.le_of_ble_eq_true rfl) q360 rfl (q := 37) rfl ?_
  refine j_gf o dX1_ask_37 (jwm 8 rfl r1) kcX2 9 (Nat.le_of_ble_eq_true rfl) q310 rfl (q := 40) rfl ?_
  refine j_callV0 o (ctJ2_size hG _ (jwl 8 rfl hz5)) dX1_ask_40 q398 wdJ2_size mdJ2_size (jwm 8 rfl hz5) (by rfl) (by rfl) rfl (Nat.le_of_ble_eq_true rfl) (Nat.le_of_ble_eq_true rfl) (by omega) (Nat.le_of_ble_eq_true rfl) (q := 43) rfl (fun v wd hpost => ?_)
  obtain ⟨rfl, rfl⟩ := hpost
  dsimp only [List.cons_append, List.nil_append, Option.toList]
  have hq : qs.length = (fB (dF D)).length := r4
  rw [hq]
  by_cases hge : (fB (dF D)).length ≤ aFst D i k
  · refine j_icltF o (t := 66) dX1_ask_43 (by decide) (q := 46) rfl (by rw [nI_ltI (by show aFst D i k < _; omega) (by omega)]; show ¬ aFst D i k < _; omega) ?_
    refine j_ald_n o dX1_ask_46 rfl rfl (q := 47) rfl ?_
    refine j_ald_n o dX1_ask_47 rfl rfl (q := 48) rfl ?_
    refine j_gf o dX1_ask_48 (jw 2 0 rfl rfl) kcX1 7 (Nat.le_of_ble_eq_true rfl) q360 rfl (q := 51) rfl ?_
    refine j_gf o dX1_ask_51 (jwm 8 rfl r1) kcX2 3 (Nat.le_of_ble_eq_true rfl) q298 rfl (q := 54) rfl ?_
    refine j_ald_n o dX1_ask_54 rfl rfl (q := 55) rfl ?_
    refine j_gf o dX1_ask_55 (jw 2 0 rfl rfl) kcX1 7 (Nat.le_of_ble_eq_true rfl) q360 rfl (q := 58) rfl ?_
    refine j_gf o dX1_ask_58 (jwm 8 rfl r1) kcX2 4 (Nat.le_of_ble_eq_true rfl) q300 rfl (q := 61) rfl ?_
    refine j_callV1 o (ctX6_see hG _ _ _ _ _ _) dX1_ask_61 q1074 wdX6_see mdX6_see (jw 0 0 rfl rfl) (by rfl) (by rfl) rfl (Nat.le_of_ble_eq_true rfl) (Nat.le_of_ble_eq_true rfl) (by omega) (Nat.le_of_ble_eq_true rfl) (q := 64) rfl (fun v wd hpost => ?_)
    obtain ⟨rfl, rfl⟩ := hpost
    dsimp only [List.cons_append, List.nil_append, Option.toList]
    refine j_iconst o (nI 3) dX1_ask_64 (by decide) (q := 65) rfl ?_
    refine j_mgN [_, _] (fun wc hwc => ?_)
    first | dsimp only [List.cons_append, List.nil_append] | skip
    have hwc2 : wc.Perm [(d0, clO (updf (dI D) i (fB (dF D)).length 0)), (d1, clO (updf (dI D) i (fB (dF D)).length 1)), (d2, clO (updf (dI D) i (fB (dF D)).length 2))] := hwc.trans (hR2 _)
    refine j_mgN [_, _, _, _, _, _, _, _, _, _, _, _] (fun w4 hw4 => ?_)
    first | dsimp only [List.cons_append, List.nil_append] | skip
    exact j_ret o r dX1_ask_65 rfl [_] _ rfl (⟨by unfold askA; rw [if_pos hge], w4, rfl, by unfold dAsk; rw [if_pos hge]; exact ⟨f2, k2, lg2, cl2, io2, mk2, hf2, hk2, ess2, essk2, xs2, d0, d1, d2, mv2, wl, wa, wf, we, wk, wke, wp, (by letI : DecidableEq (Nat × va_E) := fun _ _ => Classical.propDecidable _; exact List.perm_iff_count.mpr (fun a_ => by have e0_ := List.Perm.count_eq (hw4) a_; have e1_ := List.Perm.count_eq (hwc2) a_; simp only [List.flatten_cons, List.flatten_nil, jflat, List.cons_append, List.nil_append, List.count_append, List.count_cons, List.append_nil, List.count_nil, List.flatten_append, bkO, pgO, stO, eO, tkO, eA, nFl, dkO, dN, dF, dK, dA, dI, dM] at e0_ e1_ ⊢; omega)), hF, hE, h1x, hK, hG2, h2x, hA, hl9, ha, hm⟩⟩) (by omega)
  · have hlt : aFst D i k < (fB (dF D)).length := by omega
    have hln : dpt (fB (dF D)).length (aFst D i k) < 10 := by
      have := log2_le (n := (fB (dF D)).length) (k := 6) (by omega)
      unfold dpt lvl
      split <;> omega
    refine j_icltT o 66 dX1_ask_43 (by decide) ((nI_ltI (by show aFst D i k < _; omega) (by omega)).mpr hlt) ?_
    refine j_iconst o (nI 0) dX1_ask_66 (by decide) (q := 67) rfl ?_
    refine j_ist6 o dX1_ask_67 rfl (hN 6 (Nat.le_of_ble_eq_true rfl)) (q := 69) rfl ?_
    refine j_ild o dX1_ask_69 rfl (q := 71) rfl ?_
    refine j_ist7 o dX1_ask_71 rfl (hN 7 (Nat.le_of_ble_eq_true rfl)) (q := 73) rfl ?_
    refine j_ald_n o dX1_ask_73 rfl rfl (q := 74) rfl ?_
    refine j_ild o dX1_ask_74 rfl (q := 76) rfl ?_
    refine j_ild o dX1_ask_76 rfl (q := 78) rfl ?_
    refine j_callV0 o (ctX1_forwarded hG _ (q := 0) (n := dN D) (F := fK5 (dF D)) (jwl 2 rfl (List.mem_singleton.mpr rfl)) (jwl 8 rfl r1) n2 (by omega) (by show aFst D i k < _; omega) (by omega)) dX1_ask_78 q1280 wdX1_forwarded mdX1_forwarded (jw 2 0 rfl rfl) (by rfl) (by rfl) rfl (Nat.le_of_ble_eq_true rfl) (Nat.le_of_ble_eq_true rfl) (by omega) (Nat.le_of_ble_eq_true rfl) (q := 81) rfl (fun v wd hpost => ?_)
    obtain ⟨rfl, rfl⟩ := hpost
    dsimp only [List.cons_append, List.nil_append, Option.toList]
    refine j_ist8 o dX1_ask_81 rfl (hN 8 (Nat.le_of_ble_eq_true rfl)) (q := 83) rfl ?_
    have fin : ∀ (y7 y8 : Option Value), J g Y [[(c, clO (dI D i))], R, [(x, dkO (dN D) f2 k2 lg2 cl2 io2 mk2)], wl, wa, [(cl2, eQ g 4 3 (fun i => [d0, d1, d2][i]?))], [(io2, eA g 1 3 (opnF (dM D)))], [(mk2, eA g 0 3 mv2)], wf, we, wk, wke, wp] 0 110 [some (.ref x), some (.int (nI i)), some (.int (nI k)), some (.ref c), some (.int (nI (fHs (dF D) k))), some (.int (nI (aFst D i k))), some (.int (nI (aHop D i k))), y7, y8] [] := by
      intro y7 y8
      have hh9 := hopN_le (fB (dF D)).length (fHs (dF D) k) (fB (dF D)).length (aFst D i k)
      have hh9 : aHop D i k ≤ (fB (dF D)).length := hh9
      refine j_ild o dX1_ask_110 rfl (q := 112) rfl ?_
      by_cases hpos : 0 < aHop D i k
      · have hne := hopN_pos hpos
        obtain ⟨j, hj1, hj⟩ := adr_pw (n := dI D i) (h := fHs (dF D) k) hi2
        have hdp : 1 ≤ dpt (fB (dF D)).length (aFst D i k) := by
          apply Classical.byContradiction
          intro h0
          exact hne ((fwd_ok n2 hlt hj1 hj).2.2.2 (by omega))
        have hde : dpt (fB (dF D)).length (aFst D i k) = lvl (fB (dF D)).length + if aFst D i k < ptr (fB (dF D)).length ∨ 2 * 2 ^ lvl (fB (dF D)).length ≤ aFst D i k then 1 else 0 := by rw [bse_lvl n2]; rfl
        refine j_ifleF o (t := 130) dX1_ask_112 (by decide) (q := 115) rfl (by show ¬ nI (aHop D i k) ≤ nI 0; exact nI_ge hpos (by omega)) ?_
        refine j_ald_n o dX1_ask_115 rfl rfl (q := 116) rfl ?_
        refine j_ild o dX1_ask_116 rfl (q := 118) rfl ?_
        refine j_ald_n o dX1_ask_118 rfl rfl (q := 119) rfl ?_
        refine j_gf o dX1_ask_119 (jw 2 0 rfl rfl) kcX1 7 (Nat.le_of_ble_eq_true rfl) q360 rfl (q := 122) rfl ?_
        refine j_ild o dX1_ask_122 rfl (q := 124) rfl ?_
        refine j_callV0 o (ctX2_depth hG _ (F := fK5 (dF D)) (jwl 8 rfl r1) hlv (by show aFst D i k < _; omega) (by omega)) dX1_ask_124 q701 wdX2_depth mdX2_depth (jwm 8 rfl r1) (by rfl) (by rfl) rfl (Nat.le_of_ble_eq_true rfl) (Nat.le_of_ble_eq_true rfl) (by omega) (Nat.le_of_ble_eq_true rfl) (q := 127) rfl (fun v wd hpost => ?_)
        obtain ⟨rfl, rfl⟩ := hpost
        dsimp only [List.cons_append, List.nil_append, Option.toList]
        rw [← hde]
        refine j_callV1 o (ctX6_learn hG _ hdp hln (by show aFst D i k < _; omega)) dX1_ask_127 q1284 wdX6_learn mdX6_learn (jw 0 0 rfl rfl) (by rfl) (by rfl) rfl (Nat.le_of_ble_eq_true rfl) (Nat.le_of_ble_eq_true rfl) (by omega) (Nat.le_of_ble_eq_true rfl) (q := 130) rfl (fun v wd hpost => ?_)
        obtain ⟨rfl, rfl⟩ := hpost
        dsimp only [List.cons_append, List.nil_append, Option.toList]
        refine j_ald_n o dX1_ask_130 rfl rfl (q := 131) rfl ?_
        refine j_dup o dX1_ask_131 rfl (q := 132) rfl ?_
        refine j_gf o dX1_ask_132 (jw 2 0 rfl rfl) kcX1 3 (Nat.le_of_ble_eq_true rfl) q356 rfl (q := 135) rfl ?_
        refine j_ild o dX1_ask_135 rfl (q := 137) rfl ?_
        refine j_iadd o dX1_ask_137 (q := 138) rfl ?_
        refine j_topi o (nI ((dN D).2.2.2.1 + aHop D i k)) (nI_add _ _) ?_
        refine j_pf o dX1_ask_138 2 0 rfl rfl kcX1 3 (Nat.le_of_ble_eq_true rfl) q356 rfl rfl rfl (Nat.le_of_ble_eq_true rfl) (q := 141) rfl ?_
        dsimp only [List.set]
        refine j_ild o dX1_ask_141 rfl (q := 143) rfl ?_
        refine j_mgN [_, _] (fun wc hwc => ?_)
        first | dsimp only [List.cons_append, List.nil_append] | skip
        have hwc2 : wc.Perm [(d0, clO (updf (dI D) i (lrn (fB (dF D)).length (aFst D i k)) 0)), (d1, clO (updf (dI D) i (lrn (fB (dF D)).length (aFst D i k)) 1)), (d2, clO (updf (dI D) i (lrn (fB (dF D)).length (aFst D i k)) 2))] := hwc.trans (hR2 _)
        refine j_mgN [_, _, _, _, _, _, _, _, _, _, _, _] (fun w4 hw4 => ?_)
        first | dsimp only [List.cons_append, List.nil_append] | skip
        exact j_ret o r dX1_ask_143 rfl [_] _ rfl (⟨by unfold askA; rw [if_neg hge], w4, rfl, by unfold dAsk nFw; rw [if_neg hge, if_pos hpos]; exact ⟨f2, k2, lg2, cl2, io2, mk2, hf2, hk2, ess2, essk2, xs2, d0, d1, d2, mv2, wl, wa, wf, we, wk, wke, wp, (by letI : DecidableEq (Nat × va_E) := fun _ _ => Classical.propDecidable _; exact List.perm_iff_count.mpr (fun a_ => by have e0_ := List.Perm.count_eq (hw4) a_; have e1_ := List.Perm.count_eq (hwc2) a_; simp only [List.flatten_cons, List.flatten_nil, jflat, List.cons_append, List.nil_append, List.count_append, List.count_cons, List.append_nil, List.count_nil, List.flatten_append, bkO, pgO, stO, eO, tkO, eA, nFl, dkO, dN, dF, dK, dA, dI, dM] at e0_ e1_ ⊢; omega)), hF, hE, h1x, hK, hG2, h2x, hA, hl9, ha, hm⟩⟩) (by omega)
      · have h0 : aHop D i k = 0 := by omega
        refine j_ifleT o 130 dX1_ask_112 (by decide) (by show nI (aHop D i k) ≤ nI 0; rw [h0]; decide) ?_
        refine j_ald_n o dX1_ask_130 rfl rfl (q := 131) rfl ?_
        refine j_dup o dX1_ask_131 rfl (q := 132) rfl ?_
        refine j_gf o dX1_ask_132 (jw 2 0 rfl rfl) kcX1 3 (Nat.le_of_ble_eq_true rfl) q356 rfl (q := 135) rfl ?_
        refine j_ild o dX1_ask_135 rfl (q := 137) rfl ?_
        refine j_iadd o dX1_ask_137 (q := 138) rfl ?_
        refine j_topi o (nI ((dN D).2.2.2.1 + aHop D i k)) (nI_add _ _) ?_
        refine j_pf o dX1_ask_138 2 0 rfl rfl kcX1 3 (Nat.le_of_ble_eq_true rfl) q356 rfl rfl rfl (Nat.le_of_ble_eq_true rfl) (q := 141) rfl ?_
        dsimp only [List.set]
        refine j_ild o dX1_ask_141 rfl (q := 143) rfl ?_
        refine j_mgN [_, _, _, _, _, _, _, _, _, _, _, _, _] (fun w4 hw4 => ?_)
        first | dsimp only [List.cons_append, List.nil_append] | skip
        exact j_ret o r dX1_ask_143 rfl [_] _ rfl (⟨by unfold askA; rw [if_neg hge], w4, rfl, by unfold dAsk nFw; rw [if_neg hge, if_neg hpos]; exact ⟨f2, k2, lg2, cl2, io2, mk2, hf2, hk2, ess2, essk2, xs2, d0, d1, d2, mv2, wl, wa, wf, we, wk, wke, wp, (by letI : DecidableEq (Nat × va_E) := fun _ _ => Classical.propDecidable _; exact List.perm_iff_count.mpr (fun a_ => by have e0_ := List.Perm.count_eq (hw4) a_; have e1_ := List.Perm.count_eq (hR1) a_; simp only [List.flatten_cons, List.flatten_nil, jflat, List.cons_append, List.nil_append, List.count_append, List.count_cons, List.append_nil, List.count_nil, List.flatten_append, bkO, pgO, stO, eO, tkO, eA, nFl, dkO, dN, dF, dK, dA, dI, dM] at e0_ e1_ ⊢; omega)), hF, hE, h1x, hK, hG2, h2x, hA, hl9, ha, hm⟩⟩) (by omega)
    have loop : ∀ (d a hp0 : Nat), a < (fB (dF D)).length → (fB (dF D)).length ≤ a + d → (∃ j, 1 ≤ j ∧ a = fHs (dF D) k % 2 ^ j) → hp0 + hopN (fB (dF D)).length (fHs (dF D) k) d a = aHop D i k → J g Y [[(c, clO (dI D i))], R, [(x, dkO (dN D) f2 k2 lg2 cl2 io2 mk2)], wl, wa, [(cl2, eQ g 4 3 (fun i => [d0, d1, d2][i]?))], [(io2, eA g 1 3 (opnF (dM D)))], [(mk2, eA g 0 3 mv2)], wf, we, wk, wke, wp] 0 83 [some (.ref x), some (.int (nI i)), some (.int (nI k)), some (.ref c), some (.int (nI (fHs (dF D) k))), some (.int (nI (aFst D i k))), some (.int (nI hp0)), some (.int (nI a)), some (.int (nI (fwd (fB (dF D)).length a (fHs (dF D) k))))] [] := by
      intro d
      induction d with
      | zero => intro a hp0 h1 h2; omega
      | succ d ih =>
        intro a hp0 h1 h2 h3 h4
        obtain ⟨j, hj1, hj⟩ := h3
        obtain ⟨f1, f3, f4, -⟩ := fwd_ok n2 h1 hj1 hj
        refine j_ild o dX1_ask_83 rfl (q := 85) rfl ?_
        refine j_ild o dX1_ask_85 rfl (q := 87) rfl ?_
        by_cases heq : fwd (fB (dF D)).length a (fHs (dF D) k) = a
        · refine j_iceqT o 110 dX1_ask_87 (by decide) (by rw [heq]) ?_
          have h5 : hopN (fB (dF D)).length (fHs (dF D) k) (d + 1) a = 0 := by
            show (if _ then _ else _) = _
            rw [if_pos heq]
          rw [h5, Nat.add_zero] at h4
          rw [h4]
          exact fin _ _
        · refine j_iceqF o (t := 110) dX1_ask_87 (by decide) (q := 90) rfl (fun e => heq ((nI_eq (by omega) (by omega)).mp e)) ?_
          have h5 : hopN (fB (dF D)).length (fHs (dF D) k) (d + 1) a = 1 + hopN (fB (dF D)).length (fHs (dF D) k) d (fwd (fB (dF D)).length a (fHs (dF D) k)) := by
            show (if _ then _ else _) = _
            rw [if_neg heq]
          rw [h5] at h4
          refine j_inc6 o (nI (hp0 + 1)) dX1_ask_90 (by first | exact nI_1 _ | exact pk_m1 _ | rfl) rfl (q := 93) rfl ?_
          refine j_ild o dX1_ask_93 rfl (q := 95) rfl ?_
          refine j_ist7 o dX1_ask_95 rfl (hN 7 (Nat.le_of_ble_eq_true rfl)) (q := 97) rfl ?_
          refine j_ald_n o dX1_ask_97 rfl rfl (q := 98) rfl ?_
          refine j_ild o dX1_ask_98 rfl (q := 100) rfl ?_
          refine j_ild o dX1_ask_100 rfl (q := 102) rfl ?_
          refine j_callV0 o (ctX1_forwarded hG _ (q := 0) (n := dN D) (F := fK5 (dF D)) (jwl 2 rfl (List.mem_singleton.mpr rfl)) (jwl 8 rfl r1) n2 (by omega) (by omega) (by omega)) dX1_ask_102 q1280 wdX1_forwarded mdX1_forwarded (jw 2 0 rfl rfl) (by rfl) (by rfl) rfl (Nat.le_of_ble_eq_true rfl) (Nat.le_of_ble_eq_true rfl) (by omega) (Nat.le_of_ble_eq_true rfl) (q := 105) rfl (fun v wd hpost => ?_)
          obtain ⟨rfl, rfl⟩ := hpost
          dsimp only [List.cons_append, List.nil_append, Option.toList]
          refine j_ist8 o dX1_ask_105 rfl (hN 8 (Nat.le_of_ble_eq_true rfl)) (q := 107) rfl ?_
          refine j_goto o 83 dX1_ask_107 (by decide) ?_
          exact ih _ (hp0 + 1) f3 (by omega) f4 (by omega)
    exact loop (fB (dF D)).length (aFst D i k) 0 hlt (by omega) (adr_pw hi2) (by rw [Nat.zero_add])
theorem ctxX1_askI {l : Launch} {g : jG} (hG : GS l g) (bg : va_W) {x : Nat} {D : Dk} {p q : Int32} (hD : rD g bg x D) (h : ¬ inI 2 p) : EX1_ask l g 9 1 [.ref x, .int p, .int q] bg xIOB := by
  obtain ⟨f, kk, lg, cl, io, mk, hf, hk9, ess, essk, xs, c0, c1, c2, mv, a1, -⟩ := hD
  refine CtrX.of [some (.ref x), some (.int p), some (.int q), none, none, none, none, none, none] hG (by decide +kernel) rfl (Nat.le_of_ble_eq_true rfl) (fun Y hl hN0 o r => ?_)
  subst hl
  have hN : ∀ i, i < 9 → i < yN Y := fun i h => by rw [hN0]; exact h
  refine j_ald_n o dX1_ask_0 rfl rfl (q := 1) rfl ?_
  refine j_ild_n o dX1_ask_1 rfl (q := 2) rfl ?_
  exact j_callXV o (ctxX1_mustBeClient hG _ h) dX1_ask_2 q1272 wdX1_mustBeClient mdX1_mustBeClient (jb a1) (by rfl) (by rfl) rfl (Nat.le_of_ble_eq_true rfl) (Nat.le_of_ble_eq_true rfl) (by omega) (Nat.le_of_ble_eq_true rfl) (j_outX o r (by omega))
theorem ctxX1_askA {l : Launch} {g : jG} (hG : GS l g) (bg : va_W) {x i : Nat} {D : Dk} {q : Int32} (hD : rD g bg x D) (hi : i ≤ 2) (h : ¬ inI 9999 q) : EX1_ask l g 9 1 [.ref x, .int (nI i), .int q] bg xIAE := by
  obtain ⟨f, kk, lg, cl, io, mk, hf, hk9, ess, essk, xs, c0, c1, c2, mv, a1, a2, a3, a4, a5, a6, a7, a8, a9, a10, a11, a12, -⟩ := id hD
  obtain ⟨c, hc⟩ := cl_at (c0 := c0) (c1 := c1) (c2 := c2) hi
  refine CtrX.of [some (.ref x), some (.int (nI i)), some (.int q), none, none, none, none, none, none] hG (by decide +kernel) rfl (Nat.le_of_ble_eq_true rfl) (fun Y hl hN0 o r => ?_)
  subst hl
  have hN : ∀ i, i < 9 → i < yN Y := fun i h => by rw [hN0]; exact h
  refine j_ald_n o dX1_ask_0 rfl rfl (q := 1) rfl ?_
  refine j_ild_n o dX1_ask_1 rfl (q := 2) rfl ?_
  refine j_callV0 o (ctX1_mustBeClient hG _ (n := dN D) (cs := [c0, c1, c2]) (jmr a1) (jmr a11) hi hc) dX1_ask_2 q1272 wdX1_mustBeClient mdX1_mustBeClient (jb a1) (by rfl) (by rfl) rfl (Nat.le_of_ble_eq_true rfl) (Nat.le_of_ble_eq_true rfl) (by omega) (Nat.le_of_ble_eq_true rfl) (q := 5) rfl (fun v wd hpost => ?_)
  obtain ⟨rfl, rfl⟩ := hpost
  dsimp only [List.cons_append, List.nil_append, Option.toList]
  refine j_ast3 o dX1_ask_5 rfl rfl (hN 3 (Nat.le_of_ble_eq_true rfl)) (q := 6) rfl ?_
  refine j_ild_n o dX1_ask_6 rfl (q := 7) rfl ?_
  exact j_callXS o (ctxX1_mustBeKey hG _ h) dX1_ask_7 q1153 wdX1_mustBeKey mdX1_mustBeKey rfl (Nat.le_of_ble_eq_true rfl) (Nat.le_of_ble_eq_true rfl) (by omega) (Nat.le_of_ble_eq_true rfl) (j_outX o r (by omega))

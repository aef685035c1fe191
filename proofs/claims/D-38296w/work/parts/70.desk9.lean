/-! THE DESK, ninth: more acts -/
set_option maxRecDepth 100000
theorem ctX1_bounds {l : Launch} {g : jG} (hG : GS l g) (bg : va_W) {x lo up : Nat} {D : Dk} {w : va_W} (hD : isD g x D w) (hI : InvD D) (h1 : lo ≤ 40) (h2 : 50 ≤ up) (h3 : up ≤ 100) : KX1_bounds l g 15 (uAct D (3, lo, up)) [.ref x, .int (nI lo), .int (nI up)] bg [w] (fun y wd => y = some (.int (nI (lod (fC (dF D)) (fB (dF D))))) ∧ ∃ w2, wd = [w2] ∧ isD g x (dAct D (3, lo, up)) w2) := by
  obtain ⟨f, kk, lg, cl, io, mk, hf, hk9, ess, essk, xs, c0, c1, c2, mv, a1, a2, a3, a4, -⟩ := hD.r (S := w) (fun _ h => h)
  obtain ⟨hI1, hI2, hI3⟩ := hI.room
  have hrw := hI.1.1.1.2.2.2.2.1
  unfold uAct
  refine Ctr.of [some (.ref x), some (.int (nI lo)), some (.int (nI up)), none] hG (by decide +kernel) rfl (Nat.le_of_ble_eq_true rfl) (fun Y hl hN0 o r hIni => ?_)
  subst hl
  have hN : ∀ i, i < 4 → i < yN Y := fun i h => by rw [hN0]; exact h
  refine j_ild_n o dX1_bounds_0 rfl (q := 1) rfl ?_
  refine j_iconst o (nI 0) dX1_bounds_1 (by decide) (q := 2) rfl ?_
  refine j_bipush o (nI 40) dX1_bounds_2 (by decide) (q := 4) rfl ?_
  refine j_callS0 o (ctX1_isIn hG _ _ _ _) dX1_bounds_4 q1057 wdX1_isIn mdX1_isIn rfl (Nat.le_of_ble_eq_true rfl) (Nat.le_of_ble_eq_true rfl) (by omega) (Nat.le_of_ble_eq_true rfl) (q := 7) rfl (fun v wd hpost => ?_)
  obtain ⟨rfl, rfl⟩ := hpost
  dsimp only [List.cons_append, List.nil_append, Option.toList]
  rw [isIn1 ⟨Nat.zero_le _, h1⟩ (by omega)]
  refine j_ifeqF o (t := 25) dX1_bounds_7 (by decide) (q := 10) rfl (by decide) ?_
  refine j_ild_n o dX1_bounds_10 rfl (q := 11) rfl ?_
  refine j_bipush o (nI 50) dX1_bounds_11 (by decide) (q := 13) rfl ?_
  refine j_bipush o (nI 100) dX1_bounds_13 (by decide) (q := 15) rfl ?_
  refine j_callS0 o (ctX1_isIn hG _ _ _ _) dX1_bounds_15 q1057 wdX1_isIn mdX1_isIn rfl (Nat.le_of_ble_eq_true rfl) (Nat.le_of_ble_eq_true rfl) (by omega) (Nat.le_of_ble_eq_true rfl) (q := 18) rfl (fun v wd hpost => ?_)
  obtain ⟨rfl, rfl⟩ := hpost
  dsimp only [List.cons_append, List.nil_append, Option.toList]
  rw [isIn1 ⟨h2, h3⟩ (by omega)]
  refine j_ifeqF o (t := 25) dX1_bounds_18 (by decide) (q := 21) rfl (by decide) ?_
  refine j_iconst o (nI 1) dX1_bounds_21 (by decide) (q := 22) rfl ?_
  refine j_goto o 26 dX1_bounds_22 (by decide) ?_
  refine j_callS0 o (ctX1_mustFit hG _ rfl) dX1_bounds_26 q1060 wdX1_mustFit mdX1_mustFit rfl (Nat.le_of_ble_eq_true rfl) (Nat.le_of_ble_eq_true rfl) (by omega) (Nat.le_of_ble_eq_true rfl) (q := 29) rfl (fun v wd hpost => ?_)
  obtain ⟨rfl, rfl⟩ := hpost
  dsimp only [List.cons_append, List.nil_append, Option.toList]
  refine j_ald_n o dX1_bounds_29 rfl rfl (q := 30) rfl ?_
  refine j_callV1 o (ctD_makeRoom hG _ hD hI) dX1_bounds_30 q1085 wdX1_makeRoom mdX1_makeRoom (jwm 0 rfl a1) (by rfl) (by rfl) rfl (Nat.le_of_ble_eq_true rfl) (Nat.le_of_ble_eq_true rfl) (by omega) (Nat.le_of_ble_eq_true rfl) (q := 33) rfl (fun v wd hpost => ?_)
  obtain ⟨rfl, w2, rfl, hD2⟩ := hpost
  dsimp only [List.cons_append, List.nil_append, Option.toList]
  refine j_new o (fs := fdX12) 1 dX1_bounds_33 kcX12 q1089 q1090 q94 dfX12 (by omega) (by decide) (q := 36) rfl (fun a hb_a => ?_)
  refine j_dup o dX1_bounds_36 rfl (q := 37) rfl ?_
  refine j_ild_n o dX1_bounds_37 rfl (q := 38) rfl ?_
  refine j_ild_n o dX1_bounds_38 rfl (q := 39) rfl ?_
  refine j_callI1 o (ctX12_init hG _ _ _ _) dX1_bounds_39 q1091 wdX12_init mdX12_init rfl rfl (Nat.le_of_ble_eq_true rfl) (Nat.le_of_ble_eq_true rfl) (by omega) (Nat.le_of_ble_eq_true rfl) (q := 42) rfl (fun v wd hpost => ?_)
  obtain ⟨rfl, rfl⟩ := hpost
  dsimp only [List.cons_append, List.nil_append, Option.toList]
  refine j_ast3 o dX1_bounds_42 rfl rfl (hN 3 (Nat.le_of_ble_eq_true rfl)) (q := 43) rfl ?_
  refine j_ald_n o dX1_bounds_43 rfl rfl (q := 44) rfl ?_
  refine j_ald_n o dX1_bounds_44 rfl rfl (q := 45) rfl ?_
  obtain ⟨f2, k2, lg2, cl2, io2, mk2, hf2, hk2, ess2, essk2, xs2, d0, d1, d2, mv2, wl, wa, wf, we, wk, wke, wp, hp, hF, hE, h1, hK, hG2, h2, hA, hl9, ha, hm⟩ := hD2
  refine j_mv1 ?_
  refine j_spP _ (hp) ?_
  dsimp only [List.cons_append, List.nil_append]
  refine j_gf o dX1_bounds_45 (jw 0 0 rfl rfl) kcX1 7 (Nat.le_of_ble_eq_true rfl) q360 rfl (q := 48) rfl ?_
  refine j_mv7 ?_
  refine j_callF1 o (ctX12_on hG _ (x := lo) (y := up) (jwl 11 rfl (List.mem_singleton.mpr rfl)) hF) dX1_bounds_48 q469 wfX12_on (show (parseMethodDescriptor "(LSplitpointer$Store;)V").map (fun d => d.parameters.length) = some 1 from by decide +kernel) (jw 12 0 rfl rfl) (by rfl) (by rfl) rfl (Nat.le_of_ble_eq_true rfl) (Nat.le_of_ble_eq_true rfl) (by omega) (Nat.le_of_ble_eq_true rfl) (q := 53) rfl (fun v wd hpost => ?_)
  obtain ⟨rfl, w3, rfl, hS3⟩ := hpost
  dsimp only [List.cons_append, List.nil_append, Option.toList]
  refine j_mgN [_, _, _, _, _, _, _, _, _, _, _, _] (fun w4 hw4 => ?_)
  first | dsimp only [List.cons_append, List.nil_append] | skip
  have hD4 : isD g x (dN (dRoom D), doA (dF (dRoom D)) (3, lo, up), dK (dRoom D), dA (dRoom D), dI (dRoom D), dM (dRoom D)) w4 := ⟨f2, k2, lg2, cl2, io2, mk2, hf2, hk2, ess2, essk2, xs2, d0, d1, d2, mv2, wl, wa, w3, we, wk, wke, wp, (by letI : DecidableEq (Nat × va_E) := fun _ _ => Classical.propDecidable _; exact List.perm_iff_count.mpr (fun a_ => by have e0_ := List.Perm.count_eq (hw4) a_; simp only [List.flatten_cons, List.flatten_nil, jflat, List.cons_append, List.nil_append, List.count_append, List.count_cons, List.append_nil, List.count_nil, List.flatten_append, bkO, pgO, stO, eO, tkO, eA, nFl, dN, dF, dK, dA, dI, dM] at e0_ ⊢; omega)), hS3, hE, h1, hK, hG2, h2, hA, hl9, ha, hm⟩
  obtain ⟨_, _, _, _, _, _, _, _, _, _, _, _, _, _, _, b1, -⟩ := hD4.r (S := w4) (fun _ h => h)
  refine j_ald_n o dX1_bounds_53 rfl rfl (q := 54) rfl ?_
  refine j_ald_n o dX1_bounds_54 rfl rfl (q := 55) rfl ?_
  refine j_callV2 o (ctD_logT hG _ (b := (3, lo, up)) hD4 hI2 hI1.2.2.2.2.1 (show dGr (dRoom D) < 2 ^ 10 by have := hI1.2.2.2.2.2.2.2.1; omega)) dX1_bounds_55 q1102 wdX1_log mdX1_log (jwm 0 rfl b1) (by rfl) (by rfl) rfl (Nat.le_of_ble_eq_true rfl) (Nat.le_of_ble_eq_true rfl) (by omega) (Nat.le_of_ble_eq_true rfl) (q := 58) rfl (fun v wd hpost => ?_)
  obtain ⟨rfl, w5, rfl, hD5⟩ := hpost
  dsimp only [List.cons_append, List.nil_append, Option.toList]
  obtain ⟨f5, _, _, _, _, _, _, _, _, _, _, _, _, _, _, b1, b2, -⟩ := hD5.r (S := w5) (fun _ h => h)
  obtain ⟨bl5, tk5, qs5, z1, z2, z3, z4, -⟩ := id b2
  refine j_ald_n o dX1_bounds_58 rfl rfl (q := 59) rfl ?_
  refine j_gf o dX1_bounds_59 (jwm 0 rfl b1) kcX1 7 (Nat.le_of_ble_eq_true rfl) q360 rfl (q := 62) rfl ?_
  have hfit := hI1.1.1.1
  have hq5 : qs5.length = (fB (dF (dRoom D))).length := z4
  refine j_callV0 o (ctX2_load hG _ (jwl 0 rfl z1) (z3.mono (fun _ h => jwl 0 rfl h)) (by have := hfit.2.2.1; omega) (by show 0 < (dF (dRoom D)).1.1; have h9 : 2 ≤ (dF (dRoom D)).1.1 := hfit.1; omega) (by show (dF (dRoom D)).1.1 < 8; have h9 : (dF (dRoom D)).1.1 ≤ 4 := hfit.2.1; omega) (by show rws (fB (dF (dRoom D))) < _; have := hfit.2.2.2.2.1; omega)) dX1_bounds_62 q679 wdX2_load mdX2_load (jwm 0 rfl z1) (by rfl) (by rfl) rfl (Nat.le_of_ble_eq_true rfl) (Nat.le_of_ble_eq_true rfl) (by omega) (Nat.le_of_ble_eq_true rfl) (q := 65) rfl (fun v wd hpost => ?_)
  obtain ⟨rfl, rfl⟩ := hpost
  dsimp only [List.cons_append, List.nil_append, Option.toList]
  exact j_ret o r dX1_bounds_65 rfl [_] _ rfl (⟨by rw [hq5]; show some (Value.int (nI (100 * rws (fB (dF (dRoom D))) / ((fB (dF (dRoom D))).length * fC (dF (dRoom D)))))) = _; rw [hI3]; rfl, w5, rfl, hD5⟩) (by omega)
/-- a cond's number out of two -/
theorem ctxX1_bounds {l : Launch} {g : jG} (hG : GS l g) (bg : va_W) {x : Nat} {p q : Int32} (h : ¬ (inI 40 p ∧ nI 50 ≤ q ∧ q ≤ nI 100)) : EX1_bounds l g 8 1 [.ref x, .int p, .int q] bg xIAE := by
  refine CtrX.of [some (.ref x), some (.int p), some (.int q), none] hG (by decide +kernel) rfl (Nat.le_of_ble_eq_true rfl) (fun Y hl hN0 o r => ?_)
  subst hl
  have hN : ∀ i, i < 4 → i < yN Y := fun i h => by rw [hN0]; exact h
  refine j_ild_n o dX1_bounds_0 rfl (q := 1) rfl ?_
  refine j_iconst o (nI 0) dX1_bounds_1 (by decide) (q := 2) rfl ?_
  refine j_bipush o (nI 40) dX1_bounds_2 (by decide) (q := 4) rfl ?_
  refine j_callS0 o (ctX1_isIn hG _ _ _ _) dX1_bounds_4 q1057 wdX1_isIn mdX1_isIn rfl (Nat.le_of_ble_eq_true rfl) (Nat.le_of_ble_eq_true rfl) (by omega) (Nat.le_of_ble_eq_true rfl) (q := 7) rfl (fun v wd hpost => ?_)
  obtain ⟨rfl, rfl⟩ := hpost
  dsimp only [List.cons_append, List.nil_append, Option.toList]
  by_cases h1 : inI 40 p
  · rw [show (if nI 0 ≤ p ∧ p ≤ nI 40 then 1 else 0 : Nat) = 1 from if_pos h1]
    refine j_ifeqF o (t := 25) dX1_bounds_7 (by decide) (q := 10) rfl (by decide) ?_
    refine j_ild_n o dX1_bounds_10 rfl (q := 11) rfl ?_
    refine j_bipush o (nI 50) dX1_bounds_11 (by decide) (q := 13) rfl ?_
    refine j_bipush o (nI 100) dX1_bounds_13 (by decide) (q := 15) rfl ?_
    refine j_callS0 o (ctX1_isIn hG _ _ _ _) dX1_bounds_15 q1057 wdX1_isIn mdX1_isIn rfl (Nat.le_of_ble_eq_true rfl) (Nat.le_of_ble_eq_true rfl) (by omega) (Nat.le_of_ble_eq_true rfl) (q := 18) rfl (fun v wd hpost => ?_)
    obtain ⟨rfl, rfl⟩ := hpost
    dsimp only [List.cons_append, List.nil_append, Option.toList]
    rw [isIn0 (fun h2 => h ⟨h1, h2⟩)]
    refine j_ifeqT o 25 dX1_bounds_18 (by decide) (by decide) ?_
    refine j_iconst o (nI 0) dX1_bounds_25 (by decide) (q := 26) rfl ?_
    exact j_callXS o (ctxX1_mustFit hG _) dX1_bounds_26 q1060 wdX1_mustFit mdX1_mustFit rfl (Nat.le_of_ble_eq_true rfl) (Nat.le_of_ble_eq_true rfl) (by omega) (Nat.le_of_ble_eq_true rfl) (j_outX o r (by omega))
  · rw [isIn0 h1]
    refine j_ifeqT o 25 dX1_bounds_7 (by decide) (by decide) ?_
    refine j_iconst o (nI 0) dX1_bounds_25 (by decide) (q := 26) rfl ?_
    exact j_callXS o (ctxX1_mustFit hG _) dX1_bounds_26 q1060 wdX1_mustFit mdX1_mustFit rfl (Nat.le_of_ble_eq_true rfl) (Nat.le_of_ble_eq_true rfl) (by omega) (Nat.le_of_ble_eq_true rfl) (j_outX o r (by omega))
theorem ctX1_rehash {l : Launch} {g : jG} (hG : GS l g) (bg : va_W) {x ch sd : Nat} {D : Dk} {w : va_W} (hD : isD g x D w) (hI : InvD D) (hc : ch ≤ 1023) (hs : sd ≤ 9) : KX1_rehash l g 15 (uAct D (2, ch, sd)) [.ref x, .int (nI ch), .int (nI sd)] bg [w] (fun y wd => y = some (.int (nI (usd (fB (fRe (dF D) ch sd))).length)) ∧ ∃ w2, wd = [w2] ∧ isD g x (dClose (dAct D (2, ch, sd))) w2) := by
  obtain ⟨f, kk, lg, cl, io, mk, hf, hk9, ess, essk, xs, c0, c1, c2, mv, a1, a2, a3, a4, -⟩ := hD.r (S := w) (fun _ h => h)
  obtain ⟨hI1, hI2, hI3⟩ := hI.room
  have hrw := hI.1.1.1.2.2.2.2.1
  have eu : uA (dF D) (2, ch, sd) = uRe (dF (dRoom D)) ch sd := by rw [hI3]; rfl
  have hre := fRe_inv hI1.1 (ch := ch) (sd := sd) (by omega) (by omega)
  unfold uAct
  refine Ctr.of [some (.ref x), some (.int (nI ch)), some (.int (nI sd)), none] hG (by decide +kernel) rfl (Nat.le_of_ble_eq_true rfl) (fun Y hl hN0 o r hIni => ?_)
  subst hl
  have hN : ∀ i, i < 4 → i < yN Y := fun i h => by rw [hN0]; exact h
  refine j_ild_n o dX1_rehash_0 rfl (q := 1) rfl ?_
  refine j_ild_n o dX1_rehash_1 rfl (q := 2) rfl ?_
  refine j_callS0 o (ctX1_mustBeHashing hG _ hc hs) dX1_rehash_2 q1173 wdX1_mustBeHashing mdX1_mustBeHashing rfl (Nat.le_of_ble_eq_true rfl) (Nat.le_of_ble_eq_true rfl) (by omega) (Nat.le_of_ble_eq_true rfl) (q := 5) rfl (fun v wd hpost => ?_)
  obtain ⟨rfl, rfl⟩ := hpost
  dsimp only [List.cons_append, List.nil_append, Option.toList]
  refine j_ald_n o dX1_rehash_5 rfl rfl (q := 6) rfl ?_
  refine j_callV1 o (ctD_makeRoom hG _ hD hI) dX1_rehash_6 q1085 wdX1_makeRoom mdX1_makeRoom (jwm 0 rfl a1) (by rfl) (by rfl) rfl (Nat.le_of_ble_eq_true rfl) (Nat.le_of_ble_eq_true rfl) (by omega) (Nat.le_of_ble_eq_true rfl) (q := 9) rfl (fun v wd hpost => ?_)
  obtain ⟨rfl, w2, rfl, hD2⟩ := hpost
  dsimp only [List.cons_append, List.nil_append, Option.toList]
  refine j_new o (fs := fdX15) 1 dX1_rehash_9 kcX15 q1176 q1177 q98 dfX15 (by omega) (by decide) (q := 12) rfl (fun a hb_a => ?_)
  refine j_dup o dX1_rehash_12 rfl (q := 13) rfl ?_
  refine j_ild_n o dX1_rehash_13 rfl (q := 14) rfl ?_
  refine j_ild_n o dX1_rehash_14 rfl (q := 15) rfl ?_
  refine j_callI1 o (ctX15_init hG _ _ _ _) dX1_rehash_15 q1178 wdX15_init mdX15_init rfl rfl (Nat.le_of_ble_eq_true rfl) (Nat.le_of_ble_eq_true rfl) (by omega) (Nat.le_of_ble_eq_true rfl) (q := 18) rfl (fun v wd hpost => ?_)
  obtain ⟨rfl, rfl⟩ := hpost
  dsimp only [List.cons_append, List.nil_append, Option.toList]
  refine j_ast3 o dX1_rehash_18 rfl rfl (hN 3 (Nat.le_of_ble_eq_true rfl)) (q := 19) rfl ?_
  refine j_ald_n o dX1_rehash_19 rfl rfl (q := 20) rfl ?_
  refine j_ald_n o dX1_rehash_20 rfl rfl (q := 21) rfl ?_
  obtain ⟨f2, k2, lg2, cl2, io2, mk2, hf2, hk2, ess2, essk2, xs2, d0, d1, d2, mv2, wl, wa, wf, we, wk, wke, wp, hp, hF, hE, h1, hK, hG2, h2, hA, hl9, ha, hm⟩ := hD2
  refine j_mv1 ?_
  refine j_spP _ (hp) ?_
  dsimp only [List.cons_append, List.nil_append]
  refine j_gf o dX1_rehash_21 (jw 0 0 rfl rfl) kcX1 7 (Nat.le_of_ble_eq_true rfl) q360 rfl (q := 24) rfl ?_
  refine j_mv8 ?_
  refine j_mv8 ?_
  refine j_callF2 o (ctX15_on hG _ (ch2 := ch) (sd2 := sd) (jwl 10 rfl (List.mem_singleton.mpr rfl)) hF hE hI1.1 (by omega) (by omega)) dX1_rehash_24 q469 wfX15_on (show (parseMethodDescriptor "(LSplitpointer$Store;)V").map (fun d => d.parameters.length) = some 1 from by decide +kernel) (jw 12 0 rfl rfl) (by rfl) (by rfl) rfl (Nat.le_of_ble_eq_true rfl) (Nat.le_of_ble_eq_true rfl) (by omega) (Nat.le_of_ble_eq_true rfl) (q := 29) rfl (fun v wd hpost => ?_)
  obtain ⟨rfl, hf3, ess3, w3, we3, rfl, hS3, hE3⟩ := hpost
  dsimp only [List.cons_append, List.nil_append, Option.toList]
  refine j_mgN [_, _, _, _, _, _, _, _, _, _, _, _, _] (fun w4 hw4 => ?_)
  first | dsimp only [List.cons_append, List.nil_append] | skip
  have hD4 : isD g x (dN (dRoom D), fRe (dF (dRoom D)) ch sd, dK (dRoom D), dA (dRoom D), dI (dRoom D), dM (dRoom D)) w4 := ⟨f2, k2, lg2, cl2, io2, mk2, hf3, hk2, ess3, essk2, xs2, d0, d1, d2, mv2, wl, wa, w3, we3, wk, wke, (hf3, hsO ch sd) :: wp, (by letI : DecidableEq (Nat × va_E) := fun _ _ => Classical.propDecidable _; exact List.perm_iff_count.mpr (fun a_ => by have e0_ := List.Perm.count_eq (hw4) a_; simp only [List.flatten_cons, List.flatten_nil, jflat, List.cons_append, List.nil_append, List.count_append, List.count_cons, List.append_nil, List.count_nil, List.flatten_append, bkO, pgO, stO, eO, tkO, eA, nFl, dN, dF, dK, dA, dI, dM] at e0_ ⊢; omega)), hS3, hE3, (by show (hf3, hsO (fRe (dF (dRoom D)) ch sd).2.1.1 (fRe (dF (dRoom D)) ch sd).2.1.2) ∈ _; rw [hre.2.2.2]; exact List.mem_cons_self), hK, hG2, List.mem_cons_of_mem _ h2, hA, hl9, ha, hm⟩
  obtain ⟨_, _, _, _, _, _, _, _, _, _, _, _, _, _, _, b1, -⟩ := hD4.r (S := w4) (fun _ h => h)
  refine j_ald_n o dX1_rehash_29 rfl rfl (q := 30) rfl ?_
  refine j_ald_n o dX1_rehash_30 rfl rfl (q := 31) rfl ?_
  refine j_callV2 o (ctD_logT hG _ (b := (2, ch, sd)) hD4 hI2 hI1.2.2.2.2.1 (show dGr (dRoom D) < 2 ^ 10 by have := hI1.2.2.2.2.2.2.2.1; omega)) dX1_rehash_31 q1102 wdX1_log mdX1_log (jwm 0 rfl b1) (by rfl) (by rfl) rfl (Nat.le_of_ble_eq_true rfl) (Nat.le_of_ble_eq_true rfl) (by omega) (Nat.le_of_ble_eq_true rfl) (q := 34) rfl (fun v wd hpost => ?_)
  obtain ⟨rfl, w5, rfl, hD5⟩ := hpost
  dsimp only [List.cons_append, List.nil_append, Option.toList]
  obtain ⟨_, _, _, _, _, _, _, _, _, _, _, _, _, _, _, b2, -⟩ := hD5.r (S := w5) (fun _ h => h)
  refine j_ald_n o dX1_rehash_34 rfl rfl (q := 35) rfl ?_
  refine j_callV1 o (ctD_closeAll hG _ hD5) dX1_rehash_35 q624 wdX1_closeAll mdX1_closeAll (jwm 0 rfl b2) (by rfl) (by rfl) rfl (Nat.le_of_ble_eq_true rfl) (Nat.le_of_ble_eq_true rfl) (by omega) (Nat.le_of_ble_eq_true rfl) (q := 38) rfl (fun v wd hpost => ?_)
  obtain ⟨rfl, w6, rfl, hD6⟩ := hpost
  dsimp only [List.cons_append, List.nil_append, Option.toList]
  obtain ⟨f6, _, _, _, _, _, _, _, _, _, _, _, _, _, _, b3, b4, -⟩ := hD6.r (S := w6) (fun _ h => h)
  obtain ⟨bl6, tk6, qs6, z1, z2, -⟩ := id b4
  refine j_ald_n o dX1_rehash_38 rfl rfl (q := 39) rfl ?_
  refine j_gf o dX1_rehash_39 (jwm 0 rfl b3) kcX1 7 (Nat.le_of_ble_eq_true rfl) q360 rfl (q := 42) rfl ?_
  refine j_callV0 o (ctX2_taken hG _ (jwl 0 rfl z1) (jwl 0 rfl z2)) dX1_rehash_42 q662 wdX2_taken mdX2_taken (jwm 0 rfl z1) (by rfl) (by rfl) rfl (Nat.le_of_ble_eq_true rfl) (Nat.le_of_ble_eq_true rfl) (by omega) (Nat.le_of_ble_eq_true rfl) (q := 45) rfl (fun v wd hpost => ?_)
  obtain ⟨rfl, rfl⟩ := hpost
  dsimp only [List.cons_append, List.nil_append, Option.toList]
  exact j_ret o r dX1_rehash_45 rfl [_] _ rfl (⟨by show some (Value.int (nI (cnt (usd (fB (fRe (dF (dRoom D)) ch sd))) 96))) = _; rw [usd_cnt hre.1.1.1, hI3], w6, rfl, hD6⟩) (by omega)
theorem ctxX1_rehash {l : Launch} {g : jG} (hG : GS l g) (bg : va_W) {x : Nat} {p q : Int32} (h : ¬ (inI 1023 p ∧ inI 9 q)) : EX1_rehash l g 9 1 [.ref x, .int p, .int q] bg xIAE := by
  refine CtrX.of [some (.ref x), some (.int p), some (.int q), none] hG (by decide +kernel) rfl (Nat.le_of_ble_eq_true rfl) (fun Y hl hN0 o r => ?_)
  subst hl
  have hN : ∀ i, i < 4 → i < yN Y := fun i h => by rw [hN0]; exact h
  refine j_ild_n o dX1_rehash_0 rfl (q := 1) rfl ?_
  refine j_ild_n o dX1_rehash_1 rfl (q := 2) rfl ?_
  exact j_callXS o (ctxX1_mustBeHashing hG _ h) dX1_rehash_2 q1173 wdX1_mustBeHashing mdX1_mustBeHashing rfl (Nat.le_of_ble_eq_true rfl) (Nat.le_of_ble_eq_true rfl) (by omega) (Nat.le_of_ble_eq_true rfl) (j_outX o r (by omega))
def dFlush (D : Dk) : Dk := (nFl (dN D) (dA D).length, dF D, dK D, dA D, dI D, dM D)
theorem ctX1_flush {l : Launch} {g : jG} (hG : GS l g) (bg : va_W) {x : Nat} {D : Dk} {w : va_W} (hD : isD g x D w) (hI : InvD D) : KX1_flush l g 2 0 [.ref x] bg [w] (fun y wd => y = some (.int (nI ((dA D).length - dFl D))) ∧ ∃ w2, wd = [w2] ∧ isD g x (dFlush D) w2) := by
  obtain ⟨f2, k2, lg2, cl2, io2, mk2, hf2, hk2, ess2, essk2, xs2, d0, d1, d2, mv2, wl, wa, wf, we, wk, wke, wp, hp, hF, hE, h1, hK, hG2, h2, hA, hl9, ha, hm⟩ := hD
  obtain ⟨m5, b5, hz5, -⟩ := hA.r (S := wl) (fun _ h => h)
  have hfl := hI.2.2.2.2.1
  refine Ctr.of [some (.ref x), none] hG (by decide +kernel) rfl (Nat.le_of_ble_eq_true rfl) (fun Y hl hN0 o r hIni => ?_)
  subst hl
  have hN : ∀ i, i < 2 → i < yN Y := fun i h => by rw [hN0]; exact h
  refine j_spP _ (hp) ?_
  dsimp only [List.cons_append, List.nil_append]
  refine j_ald_n o dX1_flush_0 rfl rfl (q := 1) rfl ?_
  refine j_gf o dX1_flush_1 (jw 0 0 rfl rfl) kcX1 9 (Nat.le_of_ble_eq_true rfl) q362 rfl (q := 4) rfl ?_
  refine j_callV0 o (ctJ2_size hG _ (jwl 1 rfl hz5)) dX1_flush_4 q398 wdJ2_size mdJ2_size (jwm 1 rfl hz5) (by rfl) (by rfl) rfl (Nat.le_of_ble_eq_true rfl) (Nat.le_of_ble_eq_true rfl) (by omega) (Nat.le_of_ble_eq_true rfl) (q := 7) rfl (fun v wd hpost => ?_)
  obtain ⟨rfl, rfl⟩ := hpost
  dsimp only [List.cons_append, List.nil_append, Option.toList]
  refine j_ald_n o dX1_flush_7 rfl rfl (q := 8) rfl ?_
  refine j_gf o dX1_flush_8 (jw 0 0 rfl rfl) kcX1 6 (Nat.le_of_ble_eq_true rfl) q359 rfl (q := 11) rfl ?_
  refine j_isub o dX1_flush_11 (q := 12) rfl ?_
  refine j_topi o (nI ((dA D).length - dFl D)) ((by rw [hl9]; exact pk_sub hfl)) ?_
  refine j_ist1 o dX1_flush_12 rfl (hN 1 (Nat.le_of_ble_eq_true rfl)) (q := 13) rfl ?_
  refine j_ald_n o dX1_flush_13 rfl rfl (q := 14) rfl ?_
  refine j_ald_n o dX1_flush_14 rfl rfl (q := 15) rfl ?_
  refine j_gf o dX1_flush_15 (jw 0 0 rfl rfl) kcX1 9 (Nat.le_of_ble_eq_true rfl) q362 rfl (q := 18) rfl ?_
  refine j_callV0 o (ctJ2_size hG _ (jwl 1 rfl hz5)) dX1_flush_18 q398 wdJ2_size mdJ2_size (jwm 1 rfl hz5) (by rfl) (by rfl) rfl (Nat.le_of_ble_eq_true rfl) (Nat.le_of_ble_eq_true rfl) (by omega) (Nat.le_of_ble_eq_true rfl) (q := 21) rfl (fun v wd hpost => ?_)
  obtain ⟨rfl, rfl⟩ := hpost
  dsimp only [List.cons_append, List.nil_append, Option.toList]
  refine j_pf o dX1_flush_21 0 0 rfl rfl kcX1 6 (Nat.le_of_ble_eq_true rfl) q359 rfl rfl rfl (Nat.le_of_ble_eq_true rfl) (q := 24) rfl ?_
  dsimp only [List.set]
  refine j_ild_n o dX1_flush_24 rfl (q := 25) rfl ?_
  refine j_mgN [_, _, _, _, _, _, _, _, _, _, _, _] (fun w4 hw4 => ?_)
  first | dsimp only [List.cons_append, List.nil_append] | skip
  exact j_ret o r dX1_flush_25 rfl [_] _ rfl (⟨rfl, w4, rfl, f2, k2, lg2, cl2, io2, mk2, hf2, hk2, ess2, essk2, xs2, d0, d1, d2, mv2, wl, wa, wf, we, wk, wke, wp, (by rw [hl9] at hw4; exact hw4), hF, hE, h1, hK, hG2, h2, hA, hl9, ha, hm⟩) (by omega)
theorem ctX1_checkpoint {l : Launch} {g : jG} (hG : GS l g) (bg : va_W) {x : Nat} {D : Dk} {w : va_W} (hD : isD g x D w) (hI : InvD D) : KX1_checkpoint l g 13 (uCopy (fB (dF D))) [.ref x] bg [w] (fun y wd => y = some (.int (nI (dA D).length)) ∧ ∃ w2, wd = [w2] ∧ isD g x (dKeep D) w2) := by
  obtain ⟨f, kk, lg, cl, io, mk, hf, hk9, ess, essk, xs, c0, c1, c2, mv, a1, a2, a3, a4, a5, a6, a7, a8, a9, -⟩ := hD.r (S := w) (fun _ h => h)
  obtain ⟨m5, b5, hz5, -⟩ := id a8
  refine Ctr.of [some (.ref x), none] hG (by decide +kernel) rfl (Nat.le_of_ble_eq_true rfl) (fun Y hl hN0 o r hIni => ?_)
  subst hl
  have hN : ∀ i, i < 2 → i < yN Y := fun i h => by rw [hN0]; exact h
  refine j_ald_n o dX1_checkpoint_0 rfl rfl (q := 1) rfl ?_
  refine j_gf o dX1_checkpoint_1 (jwm 0 rfl a1) kcX1 9 (Nat.le_of_ble_eq_true rfl) q362 rfl (q := 4) rfl ?_
  refine j_callV0 o (ctJ2_size hG _ (jwl 0 rfl hz5)) dX1_checkpoint_4 q398 wdJ2_size mdJ2_size (jwm 0 rfl hz5) (by rfl) (by rfl) rfl (Nat.le_of_ble_eq_true rfl) (Nat.le_of_ble_eq_true rfl) (by omega) (Nat.le_of_ble_eq_true rfl) (q := 7) rfl (fun v wd hpost => ?_)
  obtain ⟨rfl, rfl⟩ := hpost
  dsimp only [List.cons_append, List.nil_append, Option.toList]
  refine j_ist1 o dX1_checkpoint_7 rfl (hN 1 (Nat.le_of_ble_eq_true rfl)) (q := 8) rfl ?_
  refine j_ald_n o dX1_checkpoint_8 rfl rfl (q := 9) rfl ?_
  refine j_callV1 o (ctD_keep hG _ hD hI.1) dX1_checkpoint_9 q406 wdX1_keep mdX1_keep (jwm 0 rfl a1) (by rfl) (by rfl) rfl (Nat.le_of_ble_eq_true rfl) (Nat.le_of_ble_eq_true rfl) (by omega) (Nat.le_of_ble_eq_true rfl) (q := 12) rfl (fun v wd hpost => ?_)
  obtain ⟨rfl, w2, rfl, hD2⟩ := hpost
  dsimp only [List.cons_append, List.nil_append, Option.toList]
  refine j_ild_n o dX1_checkpoint_12 rfl (q := 13) rfl ?_
  exact j_ret o r dX1_checkpoint_13 rfl [_] _ rfl (⟨by rw [a9], w2, rfl, hD2⟩) (by omega)
def dKnock (D : Dk) : Dk := (((dN D).1, (dN D).2.1, (dN D).2.2.1, (dN D).2.2.2.1, (dN D).2.2.2.2.1, (dN D).2.2.2.2.2.1 + 1, (dN D).2.2.2.2.2.2), dF D, dK D, dA D, dI D, dM D)
theorem ctX1_knock {l : Launch} {g : jG} (hG : GS l g) (bg : va_W) {x : Nat} {D : Dk} {w : va_W} (hD : isD g x D w) : KX1_knock l g 1 0 [.ref x] bg [w] (fun y wd => y = some (.int (nI ((dN D).2.2.2.2.2.1 + 1))) ∧ ∃ w2, wd = [w2] ∧ isD g x (dKnock D) w2) := by
  obtain ⟨f2, k2, lg2, cl2, io2, mk2, hf2, hk2, ess2, essk2, xs2, d0, d1, d2, mv2, wl, wa, wf, we, wk, wke, wp, hp, hF, hE, h1, hK, hG2, h2, hA, hl9, ha, hm⟩ := hD
  refine Ctr.of [some (.ref x)] hG (by decide +kernel) rfl (Nat.le_of_ble_eq_true rfl) (fun Y hl hN0 o r hIni => ?_)
  subst hl
  have hN : ∀ i, i < 1 → i < yN Y := fun i h => by rw [hN0]; exact h
  refine j_spP _ (hp) ?_
  dsimp only [List.cons_append, List.nil_append]
  refine j_ald_n o dX1_knock_0 rfl rfl (q := 1) rfl ?_
  refine j_dup o dX1_knock_1 rfl (q := 2) rfl ?_
  refine j_gf o dX1_knock_2 (jw 0 0 rfl rfl) kcX1 5 (Nat.le_of_ble_eq_true rfl) q358 rfl (q := 5) rfl ?_
  refine j_iconst o (nI 1) dX1_knock_5 (by decide) (q := 6) rfl ?_
  refine j_iadd o dX1_knock_6 (q := 7) rfl ?_
  refine j_topi o (nI ((dN D).2.2.2.2.2.1 + 1)) (nI_1 _) ?_
  refine j_pf o dX1_knock_7 0 0 rfl rfl kcX1 5 (Nat.le_of_ble_eq_true rfl) q358 rfl rfl rfl (Nat.le_of_ble_eq_true rfl) (q := 10) rfl ?_
  dsimp only [List.set]
  refine j_ald_n o dX1_knock_10 rfl rfl (q := 11) rfl ?_
  refine j_gf o dX1_knock_11 (jw 0 0 rfl rfl) kcX1 5 (Nat.le_of_ble_eq_true rfl) q358 rfl (q := 14) rfl ?_
  refine j_mgN [_, _, _, _, _, _, _, _, _, _, _, _] (fun w4 hw4 => ?_)
  first | dsimp only [List.cons_append, List.nil_append] | skip
  exact j_ret o r dX1_knock_14 rfl [_] _ rfl (⟨rfl, w4, rfl, f2, k2, lg2, cl2, io2, mk2, hf2, hk2, ess2, essk2, xs2, d0, d1, d2, mv2, wl, wa, wf, we, wk, wke, wp, hw4, hF, hE, h1, hK, hG2, h2, hA, hl9, ha, hm⟩) (by omega)

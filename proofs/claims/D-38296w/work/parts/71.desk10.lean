/-! THE DESK, tenth: founding, crashing, the constructor -/
set_option maxRecDepth 100000
theorem fNew_inv {cap : Nat} (h1 : 2 ≤ cap) (h2 : cap ≤ 4) : InvF (fNew cap) := ⟨bgn_inv h1 h2, by show 682 < 1024; omega, by show 0 < 10; omega, by show 40 ≤ 40; omega, by show 50 ≤ 80; omega, by show 80 ≤ 100; omega⟩
theorem bgn_entB {S : va_W} : entB S [[], []] bgn := ⟨rfl, fun i es b h1 h2 => bgn_ent h1 h2⟩
theorem clO2 : eO 6 [.int (nI 0), .int (nI 0)] = clO 2 := by
  show _ = eO 6 [.int (nI (lvl 2)), .int (nI (ptr 2))]
  rw [show lvl 2 = 0 from by decide, show ptr 2 = 0 from by decide]
def dFound (D : Dk) (cap gr : Nat) : Dk := (nFl (gr, (dN D).2) 0, fNew cap, fNew cap, [], fun _ => 2, fun _ => none)
theorem ctD_keepT {l : Launch} {g : jG} (hG : GS l g) (bg : va_W) {x : Nat} {n : N7} {F K : Fl} {as : List Act3} {im : Nat → Nat} {mk : Nat → Option (Option Nat)} {w : va_W} (hD : isD g x (n, F, K, as, im, mk) w) (hI : InvF F) : KX1_keep l g 12 (uCopy (fB F)) [.ref x] bg [w] (fun v wd => v = none ∧ ∃ w2, wd = [w2] ∧ isD g x (nFl n 0, F, F, [], im, mk) w2) := ctD_keep hG bg (D := (n, F, K, as, im, mk)) hD hI
theorem ctX1_found {l : Launch} {g : jG} (hG : GS l g) (bg : va_W) {x cap gr : Nat} {D : Dk} {w : va_W} (hD : isD g x D w) (h1 : 2 ≤ cap) (h2 : cap ≤ 4) (h3 : 1 ≤ gr) (h4 : gr ≤ 8) : KX1_found l g 14 (22 + uCopy (fB (fNew cap))) [.ref x, .int (nI cap), .int (nI gr)] bg [w] (fun y wd => y = some (.int (nI (rws (fB (dF D))))) ∧ ∃ w2, wd = [w2] ∧ isD g x (dFound D cap gr) w2) := by
  obtain ⟨f2, k2, lg2, cl2, io2, mk2, hf2, hk2, ess2, essk2, xs2, d0, d1, d2, mv2, wl, wa, wf, we, wk, wke, wp, hp, hF, hE, h1x, hK, hG2, h2x, hA, hl9, ha, hm⟩ := hD
  have hR := isSt.r hF (S := wf) (fun _ h => h)
  obtain ⟨bl, tk, qs, z1, -⟩ := id hR
  refine Ctr.of [some (.ref x), some (.int (nI cap)), some (.int (nI gr)), none, none] hG (by decide +kernel) rfl (Nat.le_of_ble_eq_true rfl) (fun Y hl hN0 o r hIni => ?_)
  subst hl
  have hN : ∀ i, i < 5 → i < yN Y := fun i h => by rw [hN0]; exact h
  refine j_ild_n o dX1_found_0 rfl (q := 1) rfl ?_
  refine j_iconst o (nI 2) dX1_found_1 (by decide) (q := 2) rfl ?_
  refine j_iconst o (nI 4) dX1_found_2 (by decide) (q := 3) rfl ?_
  refine j_callS0 o (ctX1_isIn hG _ _ _ _) dX1_found_3 q1057 wdX1_isIn mdX1_isIn rfl (Nat.le_of_ble_eq_true rfl) (Nat.le_of_ble_eq_true rfl) (by omega) (Nat.le_of_ble_eq_true rfl) (q := 6) rfl (fun v wd hpost => ?_)
  obtain ⟨rfl, rfl⟩ := hpost
  dsimp only [List.cons_append, List.nil_append, Option.toList]
  rw [isIn1 ⟨h1, h2⟩ (by omega)]
  refine j_ifeqF o (t := 23) dX1_found_6 (by decide) (q := 9) rfl (by decide) ?_
  refine j_ild_n o dX1_found_9 rfl (q := 10) rfl ?_
  refine j_iconst o (nI 1) dX1_found_10 (by decide) (q := 11) rfl ?_
  refine j_bipush o (nI 8) dX1_found_11 (by decide) (q := 13) rfl ?_
  refine j_callS0 o (ctX1_isIn hG _ _ _ _) dX1_found_13 q1057 wdX1_isIn mdX1_isIn rfl (Nat.le_of_ble_eq_true rfl) (Nat.le_of_ble_eq_true rfl) (by omega) (Nat.le_of_ble_eq_true rfl) (q := 16) rfl (fun v wd hpost => ?_)
  obtain ⟨rfl, rfl⟩ := hpost
  dsimp only [List.cons_append, List.nil_append, Option.toList]
  rw [isIn1 ⟨h3, h4⟩ (by omega)]
  refine j_ifeqF o (t := 23) dX1_found_16 (by decide) (q := 19) rfl (by decide) ?_
  refine j_iconst o (nI 1) dX1_found_19 (by decide) (q := 20) rfl ?_
  refine j_goto o 24 dX1_found_20 (by decide) ?_
  refine j_callS0 o (ctX1_mustFit hG _ rfl) dX1_found_24 q1060 wdX1_mustFit mdX1_mustFit rfl (Nat.le_of_ble_eq_true rfl) (Nat.le_of_ble_eq_true rfl) (by omega) (Nat.le_of_ble_eq_true rfl) (q := 27) rfl (fun v wd hpost => ?_)
  obtain ⟨rfl, rfl⟩ := hpost
  dsimp only [List.cons_append, List.nil_append, Option.toList]
  refine j_spP _ (hp) ?_
  dsimp only [List.cons_append, List.nil_append]
  refine j_ald_n o dX1_found_27 rfl rfl (q := 28) rfl ?_
  refine j_gf o dX1_found_28 (jw 0 0 rfl rfl) kcX1 7 (Nat.le_of_ble_eq_true rfl) q360 rfl (q := 31) rfl ?_
  refine j_gf o dX1_found_31 (jwm 7 rfl z1) kcX2 5 (Nat.le_of_ble_eq_true rfl) q302 rfl (q := 34) rfl ?_
  refine j_ist3 o dX1_found_34 rfl (hN 3 (Nat.le_of_ble_eq_true rfl)) (q := 35) rfl ?_
  refine j_ald_n o dX1_found_35 rfl rfl (q := 36) rfl ?_
  refine j_ild_n o dX1_found_36 rfl (q := 37) rfl ?_
  refine j_pf o dX1_found_37 0 0 rfl rfl kcX1 0 (Nat.le_of_ble_eq_true rfl) q353 rfl rfl rfl (Nat.le_of_ble_eq_true rfl) (q := 40) rfl ?_
  dsimp only [List.set]
  refine j_ald_n o dX1_found_40 rfl rfl (q := 41) rfl ?_
  refine j_new o (fs := fdX2) 1 dX1_found_41 kcX2 q112 q113 q65 dfX2 (by omega) (by decide) (q := 44) rfl (fun s1 hb_s1 => ?_)
  refine j_dup o dX1_found_44 rfl (q := 45) rfl ?_
  refine j_ild_n o dX1_found_45 rfl (q := 46) rfl ?_
  refine j_callI1 o (ctX2_init hG _ (cap := cap)) dX1_found_46 q114 wdX2_init mdX2_init rfl rfl (Nat.le_of_ble_eq_true rfl) (Nat.le_of_ble_eq_true rfl) (by omega) (Nat.le_of_ble_eq_true rfl) (q := 49) rfl (fun v wd hpost => ?_)
  obtain ⟨rfl, hs1, w1, rfl, hF1⟩ := hpost
  dsimp only [List.cons_append, List.nil_append, Option.toList]
  refine j_pf o dX1_found_49 2 0 rfl rfl kcX1 7 (Nat.le_of_ble_eq_true rfl) q360 rfl rfl rfl (Nat.le_of_ble_eq_true rfl) (q := 52) rfl ?_
  dsimp only [List.set]
  refine j_mgN [_, _, _, _, _, _, _, _, _, _, _, _, _, _] (fun w4 hw4 => ?_)
  first | dsimp only [List.cons_append, List.nil_append] | skip
  have hD4 : isD g x ((gr, (dN D).2), fNew cap, dK D, dA D, dI D, dM D) w4 := ⟨s1, k2, lg2, cl2, io2, mk2, hs1, hk2, [[], []], essk2, xs2, d0, d1, d2, mv2, wl, wa, w1, wf ++ we, wk, wke, (hs1, hsO 682 0) :: wp, (by letI : DecidableEq (Nat × va_E) := fun _ _ => Classical.propDecidable _; exact List.perm_iff_count.mpr (fun a_ => by have e0_ := List.Perm.count_eq (hw4) a_; simp only [List.flatten_cons, List.flatten_nil, jflat, List.cons_append, List.nil_append, List.count_append, List.count_cons, List.append_nil, List.count_nil, List.flatten_append, bkO, pgO, stO, eO, tkO, eA, nFl, dN, dF, dK, dA, dI, dM, dkO, dClose, dKeep, dFound] at e0_ ⊢; omega)), hF1, bgn_entB, List.mem_cons_self, hK, hG2, List.mem_cons_of_mem _ h2x, hA, hl9, ha, hm⟩
  obtain ⟨_, _, _, _, _, _, _, _, _, _, _, _, _, _, _, b1, -⟩ := hD4.r (S := w4) (fun _ h => h)
  refine j_ald_n o dX1_found_52 rfl rfl (q := 53) rfl ?_
  refine j_callV1 o (ctD_keepT hG _ hD4 (fNew_inv h1 h2)) dX1_found_53 q406 wdX1_keep mdX1_keep (jwm 0 rfl b1) (by rfl) (by rfl) rfl (Nat.le_of_ble_eq_true rfl) (Nat.le_of_ble_eq_true rfl) (by omega) (Nat.le_of_ble_eq_true rfl) (q := 56) rfl (fun v wd hpost => ?_)
  obtain ⟨rfl, w5, rfl, hD5⟩ := hpost
  dsimp only [List.cons_append, List.nil_append, Option.toList]
  obtain ⟨_, _, _, _, _, _, _, _, _, _, _, _, _, _, _, b1, -⟩ := hD5.r (S := w5) (fun _ h => h)
  refine j_ald_n o dX1_found_56 rfl rfl (q := 57) rfl ?_
  refine j_callV1 o (ctD_closeAll hG _ hD5) dX1_found_57 q624 wdX1_closeAll mdX1_closeAll (jwm 0 rfl b1) (by rfl) (by rfl) rfl (Nat.le_of_ble_eq_true rfl) (Nat.le_of_ble_eq_true rfl) (by omega) (Nat.le_of_ble_eq_true rfl) (q := 60) rfl (fun v wd hpost => ?_)
  obtain ⟨rfl, w6, rfl, hD6⟩ := hpost
  dsimp only [List.cons_append, List.nil_append, Option.toList]
  obtain ⟨f2, k2, lg2, cl2x, io2, mk2, hf2, hk2, ess2, essk2, xs2, d0, d1, d2, mv2, wl, wa, wf, we, wk, wke, wp, hp, hF, hE, h1x, hK, hG2, h2x, hA, hl9, ha, hm⟩ := hD6
  refine j_spP _ (hp) ?_
  dsimp only [List.cons_append, List.nil_append]
  refine j_mv4 ?_
  refine j_sp [[(d0, _)], [(d1, _)], [(d2, _)]] rfl ?_
  dsimp only [List.cons_append, List.nil_append]
  refine j_iconst o (nI 0) dX1_found_60 (by decide) (q := 61) rfl ?_
  refine j_ist4 o dX1_found_61 rfl (hN 4 (Nat.le_of_ble_eq_true rfl)) (q := 63) rfl ?_
  refine j_ild o dX1_found_63 rfl (q := 65) rfl ?_
  refine j_iconst o (nI 3) dX1_found_65 (by decide) (q := 66) rfl ?_
  refine j_icgeF o (t := 87) dX1_found_66 (by decide) (q := 69) rfl (by decide) ?_
  refine j_ald_n o dX1_found_69 rfl rfl (q := 70) rfl ?_
  refine j_gf o dX1_found_70 (jw 3 0 rfl rfl) kcX1 10 (Nat.le_of_ble_eq_true rfl) q363 rfl (q := 73) rfl ?_
  refine j_ild o dX1_found_73 rfl (q := 75) rfl ?_
  refine j_aald o dX1_found_75 (r := d0) (jw 6 0 rfl rfl) rfl (by omega) (by omega) rfl (q := 76) rfl ?_
  refine j_iconst o (nI 0) dX1_found_76 (by decide) (q := 77) rfl ?_
  refine j_iconst o (nI 0) dX1_found_77 (by decide) (q := 78) rfl ?_
  refine j_callV1 o (ctX6_see hG _ _ _ _ _ _) dX1_found_78 q1074 wdX6_see mdX6_see (jw 0 0 rfl rfl) (by rfl) (by rfl) rfl (Nat.le_of_ble_eq_true rfl) (Nat.le_of_ble_eq_true rfl) (by omega) (Nat.le_of_ble_eq_true rfl) (q := 81) rfl (fun v wd hpost => ?_)
  obtain ⟨rfl, rfl⟩ := hpost
  dsimp only [List.cons_append, List.nil_append, Option.toList]
  refine j_inc4 o (nI 1) dX1_found_81 (by first | exact nI_1 _ | exact pk_m1 _ | rfl) rfl (q := 84) rfl ?_
  refine j_goto o 63 dX1_found_84 (by decide) ?_
  refine j_ild o dX1_found_63 rfl (q := 65) rfl ?_
  refine j_iconst o (nI 3) dX1_found_65 (by decide) (q := 66) rfl ?_
  refine j_icgeF o (t := 87) dX1_found_66 (by decide) (q := 69) rfl (by decide) ?_
  refine j_ald_n o dX1_found_69 rfl rfl (q := 70) rfl ?_
  refine j_gf o dX1_found_70 (jw 3 0 rfl rfl) kcX1 10 (Nat.le_of_ble_eq_true rfl) q363 rfl (q := 73) rfl ?_
  refine j_ild o dX1_found_73 rfl (q := 75) rfl ?_
  refine j_aald o dX1_found_75 (r := d1) (jw 6 0 rfl rfl) rfl (by omega) (by omega) rfl (q := 76) rfl ?_
  refine j_iconst o (nI 0) dX1_found_76 (by decide) (q := 77) rfl ?_
  refine j_iconst o (nI 0) dX1_found_77 (by decide) (q := 78) rfl ?_
  refine j_mv1 ?_
  refine j_callV1 o (ctX6_see hG _ _ _ _ _ _) dX1_found_78 q1074 wdX6_see mdX6_see (jw 0 0 rfl rfl) (by rfl) (by rfl) rfl (Nat.le_of_ble_eq_true rfl) (Nat.le_of_ble_eq_true rfl) (by omega) (Nat.le_of_ble_eq_true rfl) (q := 81) rfl (fun v wd hpost => ?_)
  obtain ⟨rfl, rfl⟩ := hpost
  dsimp only [List.cons_append, List.nil_append, Option.toList]
  refine j_inc4 o (nI 2) dX1_found_81 (by first | exact nI_1 _ | exact pk_m1 _ | rfl) rfl (q := 84) rfl ?_
  refine j_goto o 63 dX1_found_84 (by decide) ?_
  refine j_ild o dX1_found_63 rfl (q := 65) rfl ?_
  refine j_iconst o (nI 3) dX1_found_65 (by decide) (q := 66) rfl ?_
  refine j_icgeF o (t := 87) dX1_found_66 (by decide) (q := 69) rfl (by decide) ?_
  refine j_ald_n o dX1_found_69 rfl rfl (q := 70) rfl ?_
  refine j_gf o dX1_found_70 (jw 3 0 rfl rfl) kcX1 10 (Nat.le_of_ble_eq_true rfl) q363 rfl (q := 73) rfl ?_
  refine j_ild o dX1_found_73 rfl (q := 75) rfl ?_
  refine j_aald o dX1_found_75 (r := d2) (jw 6 0 rfl rfl) rfl (by omega) (by omega) rfl (q := 76) rfl ?_
  refine j_iconst o (nI 0) dX1_found_76 (by decide) (q := 77) rfl ?_
  refine j_iconst o (nI 0) dX1_found_77 (by decide) (q := 78) rfl ?_
  refine j_mv2 ?_
  refine j_callV1 o (ctX6_see hG _ _ _ _ _ _) dX1_found_78 q1074 wdX6_see mdX6_see (jw 0 0 rfl rfl) (by rfl) (by rfl) rfl (Nat.le_of_ble_eq_true rfl) (Nat.le_of_ble_eq_true rfl) (by omega) (Nat.le_of_ble_eq_true rfl) (q := 81) rfl (fun v wd hpost => ?_)
  obtain ⟨rfl, rfl⟩ := hpost
  dsimp only [List.cons_append, List.nil_append, Option.toList]
  refine j_inc4 o (nI 3) dX1_found_81 (by first | exact nI_1 _ | exact pk_m1 _ | rfl) rfl (q := 84) rfl ?_
  refine j_goto o 63 dX1_found_84 (by decide) ?_
  refine j_ild o dX1_found_63 rfl (q := 65) rfl ?_
  refine j_iconst o (nI 3) dX1_found_65 (by decide) (q := 66) rfl ?_
  refine j_icgeT o 87 dX1_found_66 (by decide) (by decide) ?_
  refine j_ild_n o dX1_found_87 rfl (q := 88) rfl ?_
  rw [clO2]
  refine j_mgN [_, _, _, _, _, _, _, _, _, _, _, _, _, _] (fun w7 hw7 => ?_)
  first | dsimp only [List.cons_append, List.nil_append] | skip
  exact j_ret o r dX1_found_88 rfl [_] _ rfl (⟨rfl, w7, rfl, show isD g x (nFl (gr, (dN D).2) 0, fNew cap, fNew cap, [], fun _ => 2, fun _ => none) w7 from ⟨f2, k2, lg2, cl2x, io2, mk2, hf2, hk2, ess2, essk2, xs2, d0, d1, d2, mv2, wl, wa, wf, we, wk, wke, wp, (by letI : DecidableEq (Nat × va_E) := fun _ _ => Classical.propDecidable _; exact List.perm_iff_count.mpr (fun a_ => by have e0_ := List.Perm.count_eq (hw7) a_; simp only [List.flatten_cons, List.flatten_nil, jflat, List.cons_append, List.nil_append, List.count_append, List.count_cons, List.append_nil, List.count_nil, List.flatten_append, bkO, pgO, stO, eO, tkO, eA, nFl, dN, dF, dK, dA, dI, dM, dkO, dClose, dKeep, dFound] at e0_ ⊢; omega)), hF, hE, h1x, hK, hG2, h2x, hA, hl9, ha, hm⟩⟩) (by omega)
theorem ctxX1_found {l : Launch} {g : jG} (hG : GS l g) (bg : va_W) {x : Nat} {p q : Int32} (h : ¬ ((nI 2 ≤ p ∧ p ≤ nI 4) ∧ nI 1 ≤ q ∧ q ≤ nI 8)) : EX1_found l g 8 1 [.ref x, .int p, .int q] bg xIAE := by
  refine CtrX.of [some (.ref x), some (.int p), some (.int q), none, none] hG (by decide +kernel) rfl (Nat.le_of_ble_eq_true rfl) (fun Y hl hN0 o r => ?_)
  subst hl
  have hN : ∀ i, i < 5 → i < yN Y := fun i h => by rw [hN0]; exact h
  refine j_ild_n o dX1_found_0 rfl (q := 1) rfl ?_
  refine j_iconst o (nI 2) dX1_found_1 (by decide) (q := 2) rfl ?_
  refine j_iconst o (nI 4) dX1_found_2 (by decide) (q := 3) rfl ?_
  refine j_callS0 o (ctX1_isIn hG _ _ _ _) dX1_found_3 q1057 wdX1_isIn mdX1_isIn rfl (Nat.le_of_ble_eq_true rfl) (Nat.le_of_ble_eq_true rfl) (by omega) (Nat.le_of_ble_eq_true rfl) (q := 6) rfl (fun v wd hpost => ?_)
  obtain ⟨rfl, rfl⟩ := hpost
  dsimp only [List.cons_append, List.nil_append, Option.toList]
  by_cases h1 : nI 2 ≤ p ∧ p ≤ nI 4
  · rw [show (if nI 2 ≤ p ∧ p ≤ nI 4 then 1 else 0 : Nat) = 1 from if_pos h1]
    refine j_ifeqF o (t := 23) dX1_found_6 (by decide) (q := 9) rfl (by decide) ?_
    refine j_ild_n o dX1_found_9 rfl (q := 10) rfl ?_
    refine j_iconst o (nI 1) dX1_found_10 (by decide) (q := 11) rfl ?_
    refine j_bipush o (nI 8) dX1_found_11 (by decide) (q := 13) rfl ?_
    refine j_callS0 o (ctX1_isIn hG _ _ _ _) dX1_found_13 q1057 wdX1_isIn mdX1_isIn rfl (Nat.le_of_ble_eq_true rfl) (Nat.le_of_ble_eq_true rfl) (by omega) (Nat.le_of_ble_eq_true rfl) (q := 16) rfl (fun v wd hpost => ?_)
    obtain ⟨rfl, rfl⟩ := hpost
    dsimp only [List.cons_append, List.nil_append, Option.toList]
    rw [isIn0 (fun h2 => h ⟨h1, h2⟩)]
    refine j_ifeqT o 23 dX1_found_16 (by decide) (by decide) ?_
    refine j_iconst o (nI 0) dX1_found_23 (by decide) (q := 24) rfl ?_
    exact j_callXS o (ctxX1_mustFit hG _) dX1_found_24 q1060 wdX1_mustFit mdX1_mustFit rfl (Nat.le_of_ble_eq_true rfl) (Nat.le_of_ble_eq_true rfl) (by omega) (Nat.le_of_ble_eq_true rfl) (j_outX o r (by omega))
  · rw [isIn0 h1]
    refine j_ifeqT o 23 dX1_found_6 (by decide) (by decide) ?_
    refine j_iconst o (nI 0) dX1_found_23 (by decide) (q := 24) rfl ?_
    exact j_callXS o (ctxX1_mustFit hG _) dX1_found_24 q1060 wdX1_mustFit mdX1_mustFit rfl (Nat.le_of_ble_eq_true rfl) (Nat.le_of_ble_eq_true rfl) (by omega) (Nat.le_of_ble_eq_true rfl) (j_outX o r (by omega))
def dCrash (D : Dk) : Dk := (((dN D).1, (dN D).2.1, (dN D).2.2.1, (dN D).2.2.2.1, (dN D).2.2.2.2.1 + 1, (dN D).2.2.2.2.2.1, (dN D).2.2.2.2.2.2), dSafe D, dK D, (dA D).take (dFl D), dI D, fun _ => none)
theorem ctX1_crash {l : Launch} {g : jG} (hG : GS l g) (bg : va_W) {x : Nat} {D : Dk} {w : va_W} (hD : isD g x D w) (hI : InvD D) : KX1_crash l g 15 (uRec D) [.ref x] bg [w] (fun y wd => y = some (.int (nI ((dA D).length - dFl D))) ∧ ∃ w2, wd = [w2] ∧ isD g x (dCrash D) w2) := by
  obtain ⟨f2, k2, lg2, cl2, io2, mk2, hf2, hk2, ess2, essk2, xs2, d0, d1, d2, mv2, wl, wa, wf, we, wk, wke, wp, hp, hF, hE, h1x, hK, hG2, h2x, hA, hl9, ha, hm⟩ := hD
  obtain ⟨m5, b5, hz5, -⟩ := hA.r (S := wl) (fun _ h => h)
  have hfl := hI.2.2.2.2.1
  have h60 := hI.2.2.2.2.2.1
  have eR : uRec D = uCopy (fB (dK D)) + uAs (dK D) ((dA D).take (dN D).2.2.2.2.2.2) := rfl
  refine Ctr.of [some (.ref x), none] hG (by decide +kernel) rfl (Nat.le_of_ble_eq_true rfl) (fun Y hl hN0 o r hIni => ?_)
  subst hl
  have hN : ∀ i, i < 2 → i < yN Y := fun i h => by rw [hN0]; exact h
  refine j_spP _ (hp) ?_
  dsimp only [List.cons_append, List.nil_append]
  refine j_ald_n o dX1_crash_0 rfl rfl (q := 1) rfl ?_
  refine j_gf o dX1_crash_1 (jw 0 0 rfl rfl) kcX1 9 (Nat.le_of_ble_eq_true rfl) q362 rfl (q := 4) rfl ?_
  refine j_callV0 o (ctJ2_size hG _ (jwl 1 rfl hz5)) dX1_crash_4 q398 wdJ2_size mdJ2_size (jwm 1 rfl hz5) (by rfl) (by rfl) rfl (Nat.le_of_ble_eq_true rfl) (Nat.le_of_ble_eq_true rfl) (by omega) (Nat.le_of_ble_eq_true rfl) (q := 7) rfl (fun v wd hpost => ?_)
  obtain ⟨rfl, rfl⟩ := hpost
  dsimp only [List.cons_append, List.nil_append, Option.toList]
  refine j_ald_n o dX1_crash_7 rfl rfl (q := 8) rfl ?_
  refine j_gf o dX1_crash_8 (jw 0 0 rfl rfl) kcX1 6 (Nat.le_of_ble_eq_true rfl) q359 rfl (q := 11) rfl ?_
  refine j_isub o dX1_crash_11 (q := 12) rfl ?_
  refine j_topi o (nI ((dA D).length - dFl D)) ((by rw [hl9]; exact pk_sub hfl)) ?_
  refine j_ist1 o dX1_crash_12 rfl (hN 1 (Nat.le_of_ble_eq_true rfl)) (q := 13) rfl ?_
  refine j_ald_n o dX1_crash_13 rfl rfl (q := 14) rfl ?_
  refine j_ald_n o dX1_crash_14 rfl rfl (q := 15) rfl ?_
  refine j_callV0 o (ctX1_recovered hG _ (n := dN D) (F := dK D) (as := dA D) (jwl 0 rfl (List.mem_singleton.mpr rfl)) (isSt.r hK (fun _ h => jwl 9 rfl h)) (hG2.mono (fun _ h => jwl 10 rfl h)) (wp := wp) h2x (fun _ h => jwl 11 rfl h) hI.2.1 (hA.r (fun _ h => jwl 1 rfl h)) hl9 (ha.mono (fun _ h => jwl 2 rfl h)) hfl h60 hI.2.2.1.take) dX1_crash_15 q462 wdX1_recovered mdX1_recovered (jw 0 0 rfl rfl) (by rfl) (by rfl) rfl (Nat.le_of_ble_eq_true rfl) (Nat.le_of_ble_eq_true rfl) (by omega) (Nat.le_of_ble_eq_true rfl) (q := 18) rfl (fun v wd hpost => ?_)
  obtain ⟨q2, h2, ess3, w2, we2, wh, rfl, rfl, hF2, hE2, hh2⟩ := hpost
  dsimp only [List.cons_append, List.nil_append, Option.toList]
  refine j_mv3 ?_
  refine j_pf o dX1_crash_18 0 0 rfl rfl kcX1 7 (Nat.le_of_ble_eq_true rfl) q360 rfl rfl rfl (Nat.le_of_ble_eq_true rfl) (q := 21) rfl ?_
  dsimp only [List.set]
  refine j_mv4 ?_
  have loop : ∀ (d m : Nat) (wl' : va_W), m = dFl D + d → m ≤ (dA D).length → AL g lg2 (xs2.take m) wl' → J g Y (wl' :: [(x, dkO (dN D) q2 k2 lg2 cl2 io2 mk2)] :: [w2, we2, wh, wa, [(cl2, eQ g 4 3 (fun i => [d0, d1, d2][i]?))], [(d0, clO (dI D 0)), (d1, clO (dI D 1)), (d2, clO (dI D 2))], [(io2, eA g 1 3 (opnF (dM D)))], [(mk2, eA g 0 3 mv2)], wf, we, wk, wke, wp]) (uRec D) 21 [some (.ref x), some (.int (nI ((dA D).length - dFl D)))] [] := by
    intro d
    induction d with
    | zero =>
      intro m wl' hm1 hm2 hA1
      obtain ⟨m6, b6, hz6, -⟩ := hA1.r (S := wl') (fun _ h => h)
      have hlm : (xs2.take m).length = m := by rw [List.length_take]; omega
      have hm1 : m = dFl D := hm1
      refine j_ald_n o dX1_crash_21 rfl rfl (q := 22) rfl ?_
      refine j_gf o dX1_crash_22 (jw 1 0 rfl rfl) kcX1 9 (Nat.le_of_ble_eq_true rfl) q362 rfl (q := 25) rfl ?_
      refine j_callV0 o (ctJ2_size hG _ (jwl 0 rfl hz6)) dX1_crash_25 q398 wdJ2_size mdJ2_size (jwm 0 rfl hz6) (by rfl) (by rfl) rfl (Nat.le_of_ble_eq_true rfl) (Nat.le_of_ble_eq_true rfl) (by omega) (Nat.le_of_ble_eq_true rfl) (q := 28) rfl (fun v wd hpost => ?_)
      obtain ⟨rfl, rfl⟩ := hpost
      dsimp only [List.cons_append, List.nil_append, Option.toList]
      rw [hlm]
      refine j_ald_n o dX1_crash_28 rfl rfl (q := 29) rfl ?_
      refine j_gf o dX1_crash_29 (jw 1 0 rfl rfl) kcX1 6 (Nat.le_of_ble_eq_true rfl) q359 rfl (q := 32) rfl ?_
      refine j_icleT o 55 dX1_crash_32 (by decide) (nI_le (by show m ≤ dFl D; omega) (by show dFl D < 2 ^ 31; omega)) ?_
      refine j_mgN [_, _, _, _, _, _, _, _, _, _, _, _, _, _, _] (fun w4 hw4 => ?_)
      first | dsimp only [List.cons_append, List.nil_append] | skip
      have hD4 : isD g x (dN D, dSafe D, dK D, (dA D).take (dFl D), dI D, dM D) w4 := by
        subst hm1
        refine ⟨q2, k2, lg2, cl2, io2, mk2, h2, hk2, ess3, essk2, xs2.take (dFl D), d0, d1, d2, mv2, wl', wa, w2, we2 ++ (wf ++ we), wk, wke, wh ++ wp, (by letI : DecidableEq (Nat × va_E) := fun _ _ => Classical.propDecidable _; exact List.perm_iff_count.mpr (fun a_ => by have e0_ := List.Perm.count_eq (hw4) a_; simp only [List.flatten_cons, List.flatten_nil, jflat, List.cons_append, List.nil_append, List.count_append, List.count_cons, List.append_nil, List.count_nil, List.flatten_append, bkO, pgO, stO, eO, tkO, eA, nFl, dN, dF, dK, dA, dI, dM, dkO, dClose, dKeep, dFound] at e0_ ⊢; omega)), hF2, hE2.mono (fun _ h => List.mem_append_left _ h), ?_, hK, hG2, List.mem_append_right _ h2x, hA1, ?_, ?_, hm⟩
        · rcases hh2 with h | h
          · exact List.mem_append_right _ h
          · exact List.mem_append_left _ h
        · show (xs2.take (dFl D)).length = ((dA D).take (dFl D)).length
          rw [List.length_take, List.length_take, hl9]
        · intro i a b h1 h2
          rw [List.getElem?_take] at h1 h2
          split at h1
          · exact ha i a b h1 (by rw [if_pos (by assumption)] at h2; exact h2)
          · cases h1
      obtain ⟨_, _, _, _, _, _, _, _, _, _, _, _, _, _, _, b1, -⟩ := hD4.r (S := w4) (fun _ h => h)
      refine j_ald_n o dX1_crash_55 rfl rfl (q := 56) rfl ?_
      refine j_callV1 o (ctD_closeAll hG _ hD4) dX1_crash_56 q624 wdX1_closeAll mdX1_closeAll (jwm 0 rfl b1) (by rfl) (by rfl) rfl (Nat.le_of_ble_eq_true rfl) (Nat.le_of_ble_eq_true rfl) (by omega) (Nat.le_of_ble_eq_true rfl) (q := 59) rfl (fun v wd hpost => ?_)
      obtain ⟨rfl, w5, rfl, hD5⟩ := hpost
      dsimp only [List.cons_append, List.nil_append, Option.toList]
      obtain ⟨f2, k2, lg2, cl2, io2, mk2, hf2, hk2, ess2, essk2, xs2, d0, d1, d2, mv2, wl, wa, wf, we, wk, wke, wp, hp, hF, hE, h1x, hK, hG2, h2x, hA, hl9, ha, hm⟩ := hD5
      refine j_spP _ (hp) ?_
      dsimp only [List.cons_append, List.nil_append]
      refine j_ald_n o dX1_crash_59 rfl rfl (q := 60) rfl ?_
      refine j_dup o dX1_crash_60 rfl (q := 61) rfl ?_
      refine j_gf o dX1_crash_61 (jw 0 0 rfl rfl) kcX1 4 (Nat.le_of_ble_eq_true rfl) q357 rfl (q := 64) rfl ?_
      refine j_iconst o (nI 1) dX1_crash_64 (by decide) (q := 65) rfl ?_
      refine j_iadd o dX1_crash_65 (q := 66) rfl ?_
      refine j_topi o (nI ((dN D).2.2.2.2.1 + 1)) (nI_1 _) ?_
      refine j_pf o dX1_crash_66 0 0 rfl rfl kcX1 4 (Nat.le_of_ble_eq_true rfl) q357 rfl rfl rfl (Nat.le_of_ble_eq_true rfl) (q := 69) rfl ?_
      dsimp only [List.set]
      refine j_ild_n o dX1_crash_69 rfl (q := 70) rfl ?_
      refine j_mgN [_, _, _, _, _, _, _, _, _, _, _, _] (fun w6 hw6 => ?_)
      first | dsimp only [List.cons_append, List.nil_append] | skip
      exact j_ret o r dX1_crash_70 rfl [_] _ rfl (⟨rfl, w6, rfl, f2, k2, lg2, cl2, io2, mk2, hf2, hk2, ess2, essk2, xs2, d0, d1, d2, mv2, wl, wa, wf, we, wk, wke, wp, hw6, hF, hE, h1x, hK, hG2, h2x, hA, hl9, ha, hm⟩) (by omega)
    | succ d ih =>
      intro m wl' hm1 hm2 hA1
      obtain ⟨m6, b6, hz6, -⟩ := hA1.r (S := wl') (fun _ h => h)
      have hlm : (xs2.take m).length = m := by rw [List.length_take]; omega
      refine j_ald_n o dX1_crash_21 rfl rfl (q := 22) rfl ?_
      refine j_gf o dX1_crash_22 (jw 1 0 rfl rfl) kcX1 9 (Nat.le_of_ble_eq_true rfl) q362 rfl (q := 25) rfl ?_
      refine j_callV0 o (ctJ2_size hG _ (jwl 0 rfl hz6)) dX1_crash_25 q398 wdJ2_size mdJ2_size (jwm 0 rfl hz6) (by rfl) (by rfl) rfl (Nat.le_of_ble_eq_true rfl) (Nat.le_of_ble_eq_true rfl) (by omega) (Nat.le_of_ble_eq_true rfl) (q := 28) rfl (fun v wd hpost => ?_)
      obtain ⟨rfl, rfl⟩ := hpost
      dsimp only [List.cons_append, List.nil_append, Option.toList]
      rw [hlm]
      refine j_ald_n o dX1_crash_28 rfl rfl (q := 29) rfl ?_
      refine j_gf o dX1_crash_29 (jw 1 0 rfl rfl) kcX1 6 (Nat.le_of_ble_eq_true rfl) q359 rfl (q := 32) rfl ?_
      refine j_icleF o (t := 55) dX1_crash_32 (by decide) (q := 35) rfl (nI_ge (by show dFl D < m; omega) (by omega)) ?_
      refine j_ald_n o dX1_crash_35 rfl rfl (q := 36) rfl ?_
      refine j_gf o dX1_crash_36 (jw 1 0 rfl rfl) kcX1 9 (Nat.le_of_ble_eq_true rfl) q362 rfl (q := 39) rfl ?_
      refine j_ald_n o dX1_crash_39 rfl rfl (q := 40) rfl ?_
      refine j_gf o dX1_crash_40 (jw 1 0 rfl rfl) kcX1 9 (Nat.le_of_ble_eq_true rfl) q362 rfl (q := 43) rfl ?_
      refine j_callV0 o (ctJ2_size hG _ (jwl 0 rfl hz6)) dX1_crash_43 q398 wdJ2_size mdJ2_size (jwm 0 rfl hz6) (by rfl) (by rfl) rfl (Nat.le_of_ble_eq_true rfl) (Nat.le_of_ble_eq_true rfl) (by omega) (Nat.le_of_ble_eq_true rfl) (q := 46) rfl (fun v wd hpost => ?_)
      obtain ⟨rfl, rfl⟩ := hpost
      dsimp only [List.cons_append, List.nil_append, Option.toList]
      rw [hlm]
      refine j_iconst o (nI 1) dX1_crash_46 (by decide) (q := 47) rfl ?_
      refine j_isub o dX1_crash_47 (q := 48) rfl ?_
      refine j_topi o (nI (m - 1)) (pk_sub (by omega)) ?_
      obtain ⟨y9, hy9⟩ := get_ex (xs := xs2) (i := m - 1) (by omega)
      have et : xs2.take m = xs2.take (m - 1) ++ [y9] := by
        conv => lhs; rw [show m = m - 1 + 1 by omega]
        rw [List.take_add_one, hy9]
        rfl
      rw [et] at hA1
      obtain ⟨m3, b3, hA3⟩ := id hA1
      obtain ⟨t3, rfl, -⟩ := hA3.head
      refine j_callV1 o (ctJ2_remove hG _ (by rw [List.length_take]; omega) hA1) dX1_crash_48 q623 wdJ2_remove mdJ2_remove (jw 0 0 rfl rfl) (by rfl) (by rfl) rfl (Nat.le_of_ble_eq_true rfl) (Nat.le_of_ble_eq_true rfl) (by omega) (Nat.le_of_ble_eq_true rfl) (q := 51) rfl (fun v wd hpost => ?_)
      obtain ⟨rfl, wl2, rfl, hA2⟩ := hpost
      dsimp only [List.cons_append, List.nil_append, Option.toList]
      refine j_pop o dX1_crash_51 rfl (q := 52) rfl ?_
      refine j_goto o 21 dX1_crash_52 (by decide) ?_
      exact ih (m - 1) wl2 (by omega) (by omega) hA2
  refine j_units (u2 := uRec D) (by omega) ?_
  exact loop ((dA D).length - dFl D) (dA D).length wl (by omega) (Nat.le_refl _) (by rw [← hl9, List.take_length]; exact hA)
def dNew : Dk := ((1, 0, 0, 0, 0, 0, 0), fNew 2, fNew 2, [], fun _ => 2, fun _ => none)
theorem ctX1_init {l : Launch} {g : jG} (hG : GS l g) (bg : va_W) {x : Nat} : KX1_init l g 12 60 [.ref x] bg [[(x, eO 1 fdX1)]] (fun v wd => v = none ∧ ∃ w2, wd = [w2] ∧ isD g x dNew w2) := by
  refine Ctr.of [some (.ref x)] hG (by decide +kernel) rfl (Nat.le_of_ble_eq_true rfl) (fun Y hl hN0 o r hIni => ?_)
  subst hl
  have hN : ∀ i, i < 1 → i < yN Y := fun i h => by rw [hN0]; exact h
  refine j_ald_n o dX1_init_0 rfl rfl (q := 1) rfl ?_
  refine j_obj o (Nat.le_of_ble_eq_true rfl) dX1_init_1 q109 q110 q111 (Nat.le_of_ble_eq_true rfl) (q := 4) rfl ?_
  refine j_ald_n o dX1_init_4 rfl rfl (q := 5) rfl ?_
  refine j_iconst o (nI 1) dX1_init_5 (by decide) (q := 6) rfl ?_
  refine j_pf o dX1_init_6 0 0 rfl rfl kcX1 0 (Nat.le_of_ble_eq_true rfl) q353 rfl rfl rfl (Nat.le_of_ble_eq_true rfl) (q := 9) rfl ?_
  dsimp only [List.set]
  refine j_ald_n o dX1_init_9 rfl rfl (q := 10) rfl ?_
  refine j_new o (fs := fdX2) 1 dX1_init_10 kcX2 q112 q113 q65 dfX2 (by omega) (by decide) (q := 13) rfl (fun s1 hb_s1 => ?_)
  refine j_dup o dX1_init_13 rfl (q := 14) rfl ?_
  refine j_iconst o (nI 2) dX1_init_14 (by decide) (q := 15) rfl ?_
  refine j_callI1 o (ctX2_init hG _ (cap := 2)) dX1_init_15 q114 wdX2_init mdX2_init rfl rfl (Nat.le_of_ble_eq_true rfl) (Nat.le_of_ble_eq_true rfl) (by omega) (Nat.le_of_ble_eq_true rfl) (q := 18) rfl (fun v wd hpost => ?_)
  obtain ⟨rfl, hs1, w1, rfl, hF1⟩ := hpost
  dsimp only [List.cons_append, List.nil_append, Option.toList]
  refine j_pf o dX1_init_18 2 0 rfl rfl kcX1 7 (Nat.le_of_ble_eq_true rfl) q360 rfl rfl rfl (Nat.le_of_ble_eq_true rfl) (q := 21) rfl ?_
  dsimp only [List.set]
  refine j_ald_n o dX1_init_21 rfl rfl (q := 22) rfl ?_
  refine j_new o (fs := fdX2) 1 dX1_init_22 kcX2 q112 q113 q65 dfX2 (by omega) (by decide) (q := 25) rfl (fun s2 hb_s2 => ?_)
  refine j_dup o dX1_init_25 rfl (q := 26) rfl ?_
  refine j_iconst o (nI 2) dX1_init_26 (by decide) (q := 27) rfl ?_
  refine j_callI1 o (ctX2_init hG _ (cap := 2)) dX1_init_27 q114 wdX2_init mdX2_init rfl rfl (Nat.le_of_ble_eq_true rfl) (Nat.le_of_ble_eq_true rfl) (by omega) (Nat.le_of_ble_eq_true rfl) (q := 30) rfl (fun v wd hpost => ?_)
  obtain ⟨rfl, hs2, w2, rfl, hF2⟩ := hpost
  dsimp only [List.cons_append, List.nil_append, Option.toList]
  refine j_pf o dX1_init_30 4 0 rfl rfl kcX1 8 (Nat.le_of_ble_eq_true rfl) q361 rfl rfl rfl (Nat.le_of_ble_eq_true rfl) (q := 33) rfl ?_
  dsimp only [List.set]
  refine j_ald_n o dX1_init_33 rfl rfl (q := 34) rfl ?_
  refine j_new o (fs := fdJ2) 1 dX1_init_34 kcJ2 q335 q134 q69 dfJ2 (by omega) (by decide) (q := 37) rfl (fun lg hb_lg => ?_)
  refine j_dup o dX1_init_37 rfl (q := 38) rfl ?_
  refine j_callI1 o (ctJ2_init hG _ _) dX1_init_38 q336 wdJ2_init mdJ2_init rfl rfl (Nat.le_of_ble_eq_true rfl) (Nat.le_of_ble_eq_true rfl) (by omega) (Nat.le_of_ble_eq_true rfl) (q := 41) rfl (fun v wd hpost => ?_)
  obtain ⟨rfl, wl, rfl, hA⟩ := hpost
  dsimp only [List.cons_append, List.nil_append, Option.toList]
  refine j_pfF o dX1_init_41 (hIni rfl) 5 0 rfl rfl kcX1 9 (Nat.le_of_ble_eq_true rfl) q362 rfl rfl rfl rfl (Nat.le_of_ble_eq_true rfl) (q := 44) rfl ?_
  dsimp only [List.set]
  refine j_ald_n o dX1_init_44 rfl rfl (q := 45) rfl ?_
  refine j_iconst o (nI 3) dX1_init_45 (by decide) (q := 46) rfl ?_
  refine j_newQ o 4 1 dX1_init_46 q337 q338 rfl (by omega) (by omega) (by decide) (q := 49) rfl (fun ca hb_ca => ?_)
  refine j_dup o dX1_init_49 rfl (q := 50) rfl ?_
  refine j_iconst o (nI 0) dX1_init_50 (by decide) (q := 51) rfl ?_
  refine j_new o (fs := fdX6) 1 dX1_init_51 kcX6 q337 q339 q76 dfX6 (by omega) (by decide) (q := 54) rfl (fun a0 hb_a0 => ?_)
  refine j_dup o dX1_init_54 rfl (q := 55) rfl ?_
  refine j_callIN1 o (ctX6_init hG _ _) dX1_init_55 q340 wdX6_init mdX6_init rfl rfl (Nat.le_of_ble_eq_true rfl) (Nat.le_of_ble_eq_true rfl) (by omega) (Nat.le_of_ble_eq_true rfl) (q := 58) rfl (fun v wd hpost => ?_)
  obtain ⟨rfl, rfl⟩ := hpost
  dsimp only [List.cons_append, List.nil_append, Option.toList]
  refine j_aastY o dX1_init_58 1 0 rfl rfl 0 0 rfl rfl rfl rfl (by omega) (by omega) (q := 59) rfl ?_
  dsimp only [List.set]
  refine j_dup o dX1_init_59 rfl (q := 60) rfl ?_
  refine j_iconst o (nI 1) dX1_init_60 (by decide) (q := 61) rfl ?_
  refine j_new o (fs := fdX6) 1 dX1_init_61 kcX6 q337 q339 q76 dfX6 (by omega) (by decide) (q := 64) rfl (fun a1 hb_a1 => ?_)
  refine j_dup o dX1_init_64 rfl (q := 65) rfl ?_
  refine j_callIN1 o (ctX6_init hG _ _) dX1_init_65 q340 wdX6_init mdX6_init rfl rfl (Nat.le_of_ble_eq_true rfl) (Nat.le_of_ble_eq_true rfl) (by omega) (Nat.le_of_ble_eq_true rfl) (q := 68) rfl (fun v wd hpost => ?_)
  obtain ⟨rfl, rfl⟩ := hpost
  dsimp only [List.cons_append, List.nil_append, Option.toList]
  refine j_aastY o dX1_init_68 2 0 rfl rfl 0 0 rfl rfl rfl rfl (by omega) (by omega) (q := 69) rfl ?_
  dsimp only [List.set]
  refine j_dup o dX1_init_69 rfl (q := 70) rfl ?_
  refine j_iconst o (nI 2) dX1_init_70 (by decide) (q := 71) rfl ?_
  refine j_new o (fs := fdX6) 1 dX1_init_71 kcX6 q337 q339 q76 dfX6 (by omega) (by decide) (q := 74) rfl (fun a2 hb_a2 => ?_)
  refine j_dup o dX1_init_74 rfl (q := 75) rfl ?_
  refine j_callIN1 o (ctX6_init hG _ _) dX1_init_75 q340 wdX6_init mdX6_init rfl rfl (Nat.le_of_ble_eq_true rfl) (Nat.le_of_ble_eq_true rfl) (by omega) (Nat.le_of_ble_eq_true rfl) (q := 78) rfl (fun v wd hpost => ?_)
  obtain ⟨rfl, rfl⟩ := hpost
  dsimp only [List.cons_append, List.nil_append, Option.toList]
  refine j_aastY o dX1_init_78 3 0 rfl rfl 0 0 rfl rfl rfl rfl (by omega) (by omega) (q := 79) rfl ?_
  dsimp only [List.set]
  refine j_pfF o dX1_init_79 (hIni rfl) 9 0 rfl rfl kcX1 10 (Nat.le_of_ble_eq_true rfl) q363 rfl rfl rfl rfl (Nat.le_of_ble_eq_true rfl) (q := 82) rfl ?_
  dsimp only [List.set]
  refine j_ald_n o dX1_init_82 rfl rfl (q := 83) rfl ?_
  refine j_iconst o (nI 3) dX1_init_83 (by decide) (q := 84) rfl ?_
  refine j_newZ o 1 dX1_init_84 (by first | decide | omega) (by omega) (by first | decide | omega) (q := 86) rfl (fun io hb_io => ?_)
  refine j_pfF o dX1_init_86 (hIni rfl) 10 0 rfl rfl kcX1 11 (Nat.le_of_ble_eq_true rfl) q364 rfl rfl rfl rfl (Nat.le_of_ble_eq_true rfl) (q := 89) rfl ?_
  dsimp only [List.set]
  refine j_ald_n o dX1_init_89 rfl rfl (q := 90) rfl ?_
  refine j_iconst o (nI 3) dX1_init_90 (by decide) (q := 91) rfl ?_
  refine j_newI o 1 dX1_init_91 (by first | decide | omega) (by omega) (by first | decide | omega) (q := 93) rfl (fun mk hb_mk => ?_)
  refine j_pfF o dX1_init_93 (hIni rfl) 11 0 rfl rfl kcX1 12 (Nat.le_of_ble_eq_true rfl) q365 rfl rfl rfl rfl (Nat.le_of_ble_eq_true rfl) (q := 96) rfl ?_
  dsimp only [List.set]
  refine j_mgN [_, _, _, _, _, _, _, _, _, _, _, _] (fun w4 hw4 => ?_)
  first | dsimp only [List.cons_append, List.nil_append] | skip
  have ef : va_up (va_up (va_up (fun _ => none) 0 (some a0)) 1 (some a1)) 2 (some a2) = fun i => [a0, a1, a2][i]? := by
    funext i
    match i with
    | 0 => rfl
    | 1 => rfl
    | 2 => rfl
    | n + 3 => simp [va_up]
  have hw5 : w4.Perm (jflat [[(mk, eA g 0 3 (opnF fun _ => none))], [(io, eA g 1 3 (opnF fun _ => none))], [(a2, clO 2)], [(a1, clO 2)], [(a0, clO 2)], [(ca, eQ g 4 3 (fun i => [a0, a1, a2][i]?))], wl, w2, [(hs2, hsO 682 0)], w1, [(hs1, hsO 682 0)], [(x, dkO (1, 0, 0, 0, 0, 0, 0) s1 s2 lg ca io mk)]]) := by
    rw [← ef, ← clO2]
    exact hw4
  exact j_vret o r dX1_init_96 [_] _ rfl (⟨rfl, w4, rfl, show isD g x ((1, 0, 0, 0, 0, 0, 0), fNew 2, fNew 2, [], fun _ => 2, fun _ => none) w4 from ⟨s1, s2, lg, ca, io, mk, hs1, hs2, [[], []], [[], []], [], a0, a1, a2, opnF fun _ => none, wl, [], w1, [], w2, [], [(hs1, hsO 682 0), (hs2, hsO 682 0)], (by letI : DecidableEq (Nat × va_E) := fun _ _ => Classical.propDecidable _; exact List.perm_iff_count.mpr (fun a_ => by have e0_ := List.Perm.count_eq (hw5) a_; simp only [List.flatten_cons, List.flatten_nil, jflat, List.cons_append, List.nil_append, List.count_append, List.count_cons, List.append_nil, List.count_nil, List.flatten_append, bkO, pgO, stO, eO, tkO, eA, nFl, dN, dF, dK, dA, dI, dM, dkO, dClose, dKeep, dFound] at e0_ ⊢; omega)), hF1, bgn_entB, List.mem_cons_self, hF2, bgn_entB, List.mem_cons_of_mem _ List.mem_cons_self, hA, rfl, fun i a b h => by simp at h, fun i a _ h => by cases h⟩⟩) (by omega)

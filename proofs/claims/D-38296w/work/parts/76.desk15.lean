/-! THE DESK, fifteenth: what is asked of buckets and pages -/
set_option maxRecDepth 100000
theorem ctX1_mustBeBucket {l : Launch} {g : jG} (hG : GS l g) (bg : va_W) {x b qb f k lg cl io mk q sz lv pt hs bl tk : Nat} {n : N7} {F : K5} {qs : List Nat} {e9 : va_E} (hx : (x, dkO n f k lg cl io mk) ∈ bg) (hq : (f, stO F lv pt sz hs bl tk) ∈ bg) (hb : ALR g bg bl qs) (hn : qs.length < 2 ^ 20) (hqb : qs[b]? = some qb) {cb fl : Nat} (hc : (qb, bkO cb fl) ∈ bg) : KX1_mustBeBucket l g 4 0 [.ref x, .int (nI b)] bg [] (fun y wd => y = some (.ref qb) ∧ wd = []) := by
  obtain ⟨m5, b5, hz5, -⟩ := id hb
  have hl := get_lt hqb
  refine Ctr.of [some (.ref x), some (.int (nI b))] hG (by decide +kernel) rfl (Nat.le_of_ble_eq_true rfl) (fun Y hl hN0 o r hIni => ?_)
  subst hl
  have hN : ∀ i, i < 2 → i < yN Y := fun i h => by rw [hN0]; exact h
  refine j_ild_n o dX1_mustBeBucket_0 rfl (q := 1) rfl ?_
  refine j_iconst o (nI 0) dX1_mustBeBucket_1 (by decide) (q := 2) rfl ?_
  refine j_ald_n o dX1_mustBeBucket_2 rfl rfl (q := 3) rfl ?_
  refine j_gf o dX1_mustBeBucket_3 (jb hx) kcX1 7 (Nat.le_of_ble_eq_true rfl) q360 rfl (q := 6) rfl ?_
  refine j_gf o dX1_mustBeBucket_6 (jb hq) kcX2 9 (Nat.le_of_ble_eq_true rfl) q310 rfl (q := 9) rfl ?_
  refine j_callV0 o (ctJ2_size hG _ (jmr hz5)) dX1_mustBeBucket_9 q398 wdJ2_size mdJ2_size (jb hz5) (by rfl) (by rfl) rfl (Nat.le_of_ble_eq_true rfl) (Nat.le_of_ble_eq_true rfl) (by omega) (Nat.le_of_ble_eq_true rfl) (q := 12) rfl (fun v wd hpost => ?_)
  obtain ⟨rfl, rfl⟩ := hpost
  dsimp only [List.cons_append, List.nil_append, Option.toList]
  refine j_iconst o (nI 1) dX1_mustBeBucket_12 (by decide) (q := 13) rfl ?_
  refine j_isub o dX1_mustBeBucket_13 (q := 14) rfl ?_
  refine j_topi o (nI (qs.length - 1)) (pk_sub (by omega)) ?_
  refine j_callS0 o (ctX1_isIn hG _ _ _ _) dX1_mustBeBucket_14 q1057 wdX1_isIn mdX1_isIn rfl (Nat.le_of_ble_eq_true rfl) (Nat.le_of_ble_eq_true rfl) (by omega) (Nat.le_of_ble_eq_true rfl) (q := 17) rfl (fun v wd hpost => ?_)
  obtain ⟨rfl, rfl⟩ := hpost
  dsimp only [List.cons_append, List.nil_append, Option.toList]
  rw [isIn1 ⟨Nat.zero_le _, by omega⟩ (by omega)]
  refine j_callS0 o (ctX1_mustBe hG _ rfl) dX1_mustBeBucket_17 q1227 wdX1_mustBe mdX1_mustBe rfl (Nat.le_of_ble_eq_true rfl) (Nat.le_of_ble_eq_true rfl) (by omega) (Nat.le_of_ble_eq_true rfl) (q := 20) rfl (fun v wd hpost => ?_)
  obtain ⟨rfl, rfl⟩ := hpost
  dsimp only [List.cons_append, List.nil_append, Option.toList]
  refine j_ald_n o dX1_mustBeBucket_20 rfl rfl (q := 21) rfl ?_
  refine j_gf o dX1_mustBeBucket_21 (jb hx) kcX1 7 (Nat.le_of_ble_eq_true rfl) q360 rfl (q := 24) rfl ?_
  refine j_gf o dX1_mustBeBucket_24 (jb hq) kcX2 9 (Nat.le_of_ble_eq_true rfl) q310 rfl (q := 27) rfl ?_
  refine j_ild_n o dX1_mustBeBucket_27 rfl (q := 28) rfl ?_
  refine j_callV0 o (ctJ2_get hG _ (hb.mono (fun _ => jmr)) hqb) dX1_mustBeBucket_28 q466 wdJ2_get mdJ2_get (jb hz5) (by rfl) (by rfl) rfl (Nat.le_of_ble_eq_true rfl) (Nat.le_of_ble_eq_true rfl) (by omega) (Nat.le_of_ble_eq_true rfl) (q := 31) rfl (fun v wd hpost => ?_)
  obtain ⟨rfl, rfl⟩ := hpost
  dsimp only [List.cons_append, List.nil_append, Option.toList]
  refine j_castS (r := (RX4, TX4, 2)) o dX1_mustBeBucket_31 q644 (jb hc) (ci := 4) rfl (q := 34) rfl ?_
  exact j_aret o r dX1_mustBeBucket_34 (by first | exact Or.inl ⟨_, rfl⟩ | exact Or.inr ⟨_, rfl⟩) rfl [] _ rfl (⟨rfl, rfl⟩) (by omega)
theorem ctxX1_mustBeBucket {l : Launch} {g : jG} (hG : GS l g) (bg : va_W) {x : Nat} {D : Dk} {p : Int32} (hD : rD g bg x D) (hI : InvD D) (h : ¬ inI ((fB (dF D)).length - 1) p) : EX1_mustBeBucket l g 8 1 [.ref x, .int p] bg xIOB := by
  obtain ⟨f, kk, lg, cl, io, mk, hf, hk9, ess, essk, xs, c0, c1, c2, mv, a1, a2, -⟩ := hD
  obtain ⟨bl, tk, qs, r1, r2, r3, r4, r5, r6⟩ := id a2
  obtain ⟨m5, b5, hz5, -⟩ := id r3
  have n2 := hI.1.1.1.2.2.1
  have n60 := hI.1.1.1.2.2.2.1
  refine CtrX.of [some (.ref x), some (.int p)] hG (by decide +kernel) rfl (Nat.le_of_ble_eq_true rfl) (fun Y hl hN0 o r => ?_)
  subst hl
  have hN : ∀ i, i < 2 → i < yN Y := fun i h => by rw [hN0]; exact h
  refine j_ild_n o dX1_mustBeBucket_0 rfl (q := 1) rfl ?_
  refine j_iconst o (nI 0) dX1_mustBeBucket_1 (by decide) (q := 2) rfl ?_
  refine j_ald_n o dX1_mustBeBucket_2 rfl rfl (q := 3) rfl ?_
  refine j_gf o dX1_mustBeBucket_3 (jb a1) kcX1 7 (Nat.le_of_ble_eq_true rfl) q360 rfl (q := 6) rfl ?_
  refine j_gf o dX1_mustBeBucket_6 (jb r1) kcX2 9 (Nat.le_of_ble_eq_true rfl) q310 rfl (q := 9) rfl ?_
  refine j_callV0 o (ctJ2_size hG _ (jmr hz5)) dX1_mustBeBucket_9 q398 wdJ2_size mdJ2_size (jb hz5) (by rfl) (by rfl) rfl (Nat.le_of_ble_eq_true rfl) (Nat.le_of_ble_eq_true rfl) (by omega) (Nat.le_of_ble_eq_true rfl) (q := 12) rfl (fun v wd hpost => ?_)
  obtain ⟨rfl, rfl⟩ := hpost
  dsimp only [List.cons_append, List.nil_append, Option.toList]
  rw [show qs.length = (fB (dF D)).length from r4]
  refine j_iconst o (nI 1) dX1_mustBeBucket_12 (by decide) (q := 13) rfl ?_
  refine j_isub o dX1_mustBeBucket_13 (q := 14) rfl ?_
  refine j_topi o (nI ((fB (dF D)).length - 1)) (pk_sub (by omega)) ?_
  refine j_callS0 o (ctX1_isIn hG _ _ _ _) dX1_mustBeBucket_14 q1057 wdX1_isIn mdX1_isIn rfl (Nat.le_of_ble_eq_true rfl) (Nat.le_of_ble_eq_true rfl) (by omega) (Nat.le_of_ble_eq_true rfl) (q := 17) rfl (fun v wd hpost => ?_)
  obtain ⟨rfl, rfl⟩ := hpost
  dsimp only [List.cons_append, List.nil_append, Option.toList]
  rw [isIn0 h]
  exact j_callXS o (ctxX1_mustBe hG _) dX1_mustBeBucket_17 q1227 wdX1_mustBe mdX1_mustBe rfl (Nat.le_of_ble_eq_true rfl) (Nat.le_of_ble_eq_true rfl) (by omega) (Nat.le_of_ble_eq_true rfl) (j_outX o r (by omega))
def bkA (B : List Bkt) (b : Nat) : Nat → Int32
  | 0 => nI (bAt B b).1.length
  | 1 => nI (bAt B b).2.1.length
  | 2 => nI (bAt B b).2.2
  | 3 => nI (dpt B.length b)
  | 4 => nI ((bAt B b).2.1[0]?.getD 0)
  | _ => nI ((bAt B b).2.1[(bAt B b).2.1.length - 1]?.getD 0)
theorem ctX1_ofBucketNow {l : Launch} {g : jG} (hG : GS l g) (bg : va_W) {x b what : Nat} {D : Dk} (hD : rD g bg x D) (hI : InvD D) (hb : b < (fB (dF D)).length) (hw : what ≤ 5) : KX1_ofBucketNow l g 5 0 [.ref x, .int (nI b), .int (nI what)] bg [] (fun y wd => y = some (.int (bkA (fB (dF D)) b what)) ∧ wd = []) := by
  obtain ⟨f, kk, lg, cl, io, mk, hf, hk9, ess, essk, xs, c0, c1, c2, mv, a1, a2, hE, a4, -⟩ := hD
  obtain ⟨bl, tk, qs, r1, r2, r3, r4, r5, r6⟩ := id a2
  obtain ⟨m5, b5, hz5, -⟩ := id r3
  obtain ⟨hfi, had⟩ := hI.1.1
  have f3 := hfi.2.2.1
  have f4 := hfi.2.2.2.1
  have f5 := hfi.2.2.2.2.1
  obtain ⟨qb, hqb⟩ := get_ex (xs := qs) (i := b) (by omega)
  obtain ⟨es, hes⟩ := get_ex (xs := ess) (i := b) (by omega)
  have hB := bAt_ex hb
  have hbR := r6 _ _ _ _ hqb hB hes
  obtain ⟨chn, ps, b1, b2, b3⟩ := id hbR
  obtain ⟨m6, b6, hz6, -⟩ := id b2
  have hER := hE.2 _ es _ hes hB
  obtain ⟨k1, k2x, k3, k4, k5⟩ := hfi.2.2.2.2.2.1.at hb
  have hrw := rws_at hb
  have hlv := lvl_lt (n := (fB (dF D)).length) (by omega)
  have hpl := ptr_le (n := (fB (dF D)).length)
  have hER1 := hER.1
  have hlen := b3.1
  have hde : dpt (fB (dF D)).length b = lvl (fB (dF D)).length + if b < ptr (fB (dF D)).length ∨ 2 * 2 ^ lvl (fB (dF D)).length ≤ b then 1 else 0 := by rw [bse_lvl f3]; rfl
  refine Ctr.of [some (.ref x), some (.int (nI b)), some (.int (nI what)), none] hG (by decide +kernel) rfl (Nat.le_of_ble_eq_true rfl) (fun Y hl hN0 o r hIni => ?_)
  subst hl
  have hN : ∀ i, i < 4 → i < yN Y := fun i h => by rw [hN0]; exact h
  refine j_ald_n o dX1_ofBucketNow_0 rfl rfl (q := 1) rfl ?_
  refine j_gf o dX1_ofBucketNow_1 (jb a1) kcX1 7 (Nat.le_of_ble_eq_true rfl) q360 rfl (q := 4) rfl ?_
  refine j_gf o dX1_ofBucketNow_4 (jb r1) kcX2 9 (Nat.le_of_ble_eq_true rfl) q310 rfl (q := 7) rfl ?_
  refine j_ild_n o dX1_ofBucketNow_7 rfl (q := 8) rfl ?_
  refine j_callV0 o (ctJ2_get hG _ (r3.mono (fun _ => jmr)) hqb) dX1_ofBucketNow_8 q466 wdJ2_get mdJ2_get (jb hz5) (by rfl) (by rfl) rfl (Nat.le_of_ble_eq_true rfl) (Nat.le_of_ble_eq_true rfl) (by omega) (Nat.le_of_ble_eq_true rfl) (q := 11) rfl (fun v wd hpost => ?_)
  obtain ⟨rfl, rfl⟩ := hpost
  dsimp only [List.cons_append, List.nil_append, Option.toList]
  refine j_castS (r := (RX4, TX4, 2)) o dX1_ofBucketNow_11 q644 (jb b1) (ci := 4) rfl (q := 14) rfl ?_
  refine j_ast3 o dX1_ofBucketNow_14 rfl rfl (hN 3 (Nat.le_of_ble_eq_true rfl)) (q := 15) rfl ?_
  refine j_ild_n o dX1_ofBucketNow_15 rfl (q := 16) rfl ?_
  obtain rfl | rfl | rfl | rfl | rfl | rfl : what = 0 ∨ what = 1 ∨ what = 2 ∨ what = 3 ∨ what = 4 ∨ what = 5 := by omega
  · refine j_tableIn o 52 dX1_ofBucketNow_16 (by decide) (by decide) rfl (by decide) ?_
    refine j_ald_n o dX1_ofBucketNow_52 rfl rfl (q := 53) rfl ?_
    refine j_callV0 o (ctX4_size hG _ (hbR.mono (fun _ => jmr)) (by rw [hER1]; exact k2x) (by omega)) dX1_ofBucketNow_53 q658 wdX4_size mdX4_size (jb b1) (by rfl) (by rfl) rfl (Nat.le_of_ble_eq_true rfl) (Nat.le_of_ble_eq_true rfl) (by omega) (Nat.le_of_ble_eq_true rfl) (q := 56) rfl (fun v wd hpost => ?_)
    obtain ⟨rfl, rfl⟩ := hpost
    dsimp only [List.cons_append, List.nil_append, Option.toList]
    exact j_ret o r dX1_ofBucketNow_56 rfl [] _ rfl (⟨by rw [hER1]; rfl, rfl⟩) (by omega)
  · refine j_tableIn o 57 dX1_ofBucketNow_16 (by decide) (by decide) rfl (by decide) ?_
    refine j_ald_n o dX1_ofBucketNow_57 rfl rfl (q := 58) rfl ?_
    refine j_gf o dX1_ofBucketNow_58 (jb b1) kcX4 0 (Nat.le_of_ble_eq_true rfl) q184 rfl (q := 61) rfl ?_
    refine j_callV0 o (ctJ2_size hG _ (jmr hz6)) dX1_ofBucketNow_61 q398 wdJ2_size mdJ2_size (jb hz6) (by rfl) (by rfl) rfl (Nat.le_of_ble_eq_true rfl) (Nat.le_of_ble_eq_true rfl) (by omega) (Nat.le_of_ble_eq_true rfl) (q := 64) rfl (fun v wd hpost => ?_)
    obtain ⟨rfl, rfl⟩ := hpost
    dsimp only [List.cons_append, List.nil_append, Option.toList]
    exact j_ret o r dX1_ofBucketNow_64 rfl [] _ rfl (⟨by rw [hlen]; rfl, rfl⟩) (by omega)
  · refine j_tableIn o 65 dX1_ofBucketNow_16 (by decide) (by decide) rfl (by decide) ?_
    refine j_ald_n o dX1_ofBucketNow_65 rfl rfl (q := 66) rfl ?_
    refine j_gf o dX1_ofBucketNow_66 (jb b1) kcX4 1 (Nat.le_of_ble_eq_true rfl) q187 rfl (q := 69) rfl ?_
    exact j_ret o r dX1_ofBucketNow_69 rfl [] _ rfl (⟨rfl, rfl⟩) (by omega)
  · refine j_tableIn o 70 dX1_ofBucketNow_16 (by decide) (by decide) rfl (by decide) ?_
    refine j_ald_n o dX1_ofBucketNow_70 rfl rfl (q := 71) rfl ?_
    refine j_gf o dX1_ofBucketNow_71 (jb a1) kcX1 7 (Nat.le_of_ble_eq_true rfl) q360 rfl (q := 74) rfl ?_
    refine j_ild_n o dX1_ofBucketNow_74 rfl (q := 75) rfl ?_
    refine j_callV0 o (ctX2_depth hG _ (F := fK5 (dF D)) (jmr r1) hlv (by omega) (by omega)) dX1_ofBucketNow_75 q701 wdX2_depth mdX2_depth (jb r1) (by rfl) (by rfl) rfl (Nat.le_of_ble_eq_true rfl) (Nat.le_of_ble_eq_true rfl) (by omega) (Nat.le_of_ble_eq_true rfl) (q := 78) rfl (fun v wd hpost => ?_)
    obtain ⟨rfl, rfl⟩ := hpost
    dsimp only [List.cons_append, List.nil_append, Option.toList]
    rw [← hde]
    exact j_ret o r dX1_ofBucketNow_78 rfl [] _ rfl (⟨rfl, rfl⟩) (by omega)
  · obtain ⟨p, hp⟩ := get_ex (xs := ps) (i := 0) (by omega)
    obtain ⟨n, rl, hn, hpc, hAp⟩ := b3.2 _ p hp
    refine j_tableIn o 79 dX1_ofBucketNow_16 (by decide) (by decide) rfl (by decide) ?_
    refine j_ald_n o dX1_ofBucketNow_79 rfl rfl (q := 80) rfl ?_
    refine j_gf o dX1_ofBucketNow_80 (jb b1) kcX4 0 (Nat.le_of_ble_eq_true rfl) q184 rfl (q := 83) rfl ?_
    refine j_iconst o (nI 0) dX1_ofBucketNow_83 (by decide) (q := 84) rfl ?_
    refine j_callV0 o (ctJ2_get hG _ (b2.mono (fun _ => jmr)) hp) dX1_ofBucketNow_84 q466 wdJ2_get mdJ2_get (jb hz6) (by rfl) (by rfl) rfl (Nat.le_of_ble_eq_true rfl) (Nat.le_of_ble_eq_true rfl) (by omega) (Nat.le_of_ble_eq_true rfl) (q := 87) rfl (fun v wd hpost => ?_)
    obtain ⟨rfl, rfl⟩ := hpost
    dsimp only [List.cons_append, List.nil_append, Option.toList]
    refine j_castS (r := (RX5, TX5, 2)) o dX1_ofBucketNow_87 q657 (jb hpc) (ci := 5) rfl (q := 90) rfl ?_
    refine j_gf o dX1_ofBucketNow_90 (jb hpc) kcX5 0 (Nat.le_of_ble_eq_true rfl) q208 rfl (q := 93) rfl ?_
    exact j_ret o r dX1_ofBucketNow_93 rfl [] _ rfl (⟨by unfold bkA; rw [hn]; rfl, rfl⟩) (by omega)
  · obtain ⟨p, hp⟩ := get_ex (xs := ps) (i := ps.length - 1) (by omega)
    obtain ⟨n, rl, hn, hpc, hAp⟩ := b3.2 _ p hp
    refine j_tableOut o 94 dX1_ofBucketNow_16 (by decide) (by decide) ?_
    refine j_ald_n o dX1_ofBucketNow_94 rfl rfl (q := 95) rfl ?_
    refine j_callV0 o (ctX4_last hG _ (jmr b1) (b2.mono (fun _ => jmr)) hp (jmr hpc)) dX1_ofBucketNow_95 q705 wdX4_last mdX4_last (jb b1) (by rfl) (by rfl) rfl (Nat.le_of_ble_eq_true rfl) (Nat.le_of_ble_eq_true rfl) (by omega) (Nat.le_of_ble_eq_true rfl) (q := 98) rfl (fun v wd hpost => ?_)
    obtain ⟨rfl, rfl⟩ := hpost
    dsimp only [List.cons_append, List.nil_append, Option.toList]
    refine j_gf o dX1_ofBucketNow_98 (jb hpc) kcX5 0 (Nat.le_of_ble_eq_true rfl) q208 rfl (q := 101) rfl ?_
    exact j_ret o r dX1_ofBucketNow_101 rfl [] _ rfl (⟨by unfold bkA; rw [← hlen, hn]; rfl, rfl⟩) (by omega)
theorem ctX1_ofBucket {l : Launch} {g : jG} (hG : GS l g) (bg : va_W) {x b what : Nat} {D : Dk} (hD : rD g bg x D) (hI : InvD D) (hb : b < (fB (dF D)).length) (hw : what ≤ 5) : KX1_ofBucket l g 6 0 [.ref x, .int (nI b), .int (nI what)] bg [] (fun y wd => y = some (.int (bkA (fB (dF D)) b what)) ∧ wd = []) := by
  obtain ⟨f, kk, lg, cl, io, mk, hf, hk9, ess, essk, xs, c0, c1, c2, mv, a1, a2, hE, a4, -⟩ := id hD
  obtain ⟨bl, tk, qs, r1, r2, r3, r4, r5, r6⟩ := id a2
  have f4 := hI.1.1.1.2.2.2.1
  obtain ⟨qb, hqb⟩ := get_ex (xs := qs) (i := b) (by omega)
  obtain ⟨es, hes⟩ := get_ex (xs := ess) (i := b) (by omega)
  obtain ⟨chn, ps, b1, b2, b3⟩ := r6 _ _ _ _ hqb (bAt_ex hb) hes
  refine Ctr.of [some (.ref x), some (.int (nI b)), some (.int (nI what))] hG (by decide +kernel) rfl (Nat.le_of_ble_eq_true rfl) (fun Y hl hN0 o r hIni => ?_)
  subst hl
  have hN : ∀ i, i < 3 → i < yN Y := fun i h => by rw [hN0]; exact h
  refine j_ald_n o dX1_ofBucket_0 rfl rfl (q := 1) rfl ?_
  refine j_ild_n o dX1_ofBucket_1 rfl (q := 2) rfl ?_
  refine j_callV0 o (ctX1_mustBeBucket hG _ (n := dN D) (q := 0) (F := fK5 (dF D)) (e9 := bkO 0 0) (jmr a1) (jmr r1) (r3.mono (fun _ => jmr)) (by omega) hqb (jmr b1)) dX1_ofBucket_2 q1322 wdX1_mustBeBucket mdX1_mustBeBucket (jb a1) (by rfl) (by rfl) rfl (Nat.le_of_ble_eq_true rfl) (Nat.le_of_ble_eq_true rfl) (by omega) (Nat.le_of_ble_eq_true rfl) (q := 5) rfl (fun v wd hpost => ?_)
  obtain ⟨rfl, rfl⟩ := hpost
  dsimp only [List.cons_append, List.nil_append, Option.toList]
  refine j_pop o dX1_ofBucket_5 rfl (q := 6) rfl ?_
  refine j_ild_n o dX1_ofBucket_6 rfl (q := 7) rfl ?_
  refine j_iconst o (nI 0) dX1_ofBucket_7 (by decide) (q := 8) rfl ?_
  refine j_iconst o (nI 5) dX1_ofBucket_8 (by decide) (q := 9) rfl ?_
  refine j_callS0 o (ctX1_isIn hG _ _ _ _) dX1_ofBucket_9 q1057 wdX1_isIn mdX1_isIn rfl (Nat.le_of_ble_eq_true rfl) (Nat.le_of_ble_eq_true rfl) (by omega) (Nat.le_of_ble_eq_true rfl) (q := 12) rfl (fun v wd hpost => ?_)
  obtain ⟨rfl, rfl⟩ := hpost
  dsimp only [List.cons_append, List.nil_append, Option.toList]
  rw [isIn1 ⟨Nat.zero_le _, hw⟩ (by omega)]
  refine j_callS0 o (ctX1_mustFit hG _ rfl) dX1_ofBucket_12 q1060 wdX1_mustFit mdX1_mustFit rfl (Nat.le_of_ble_eq_true rfl) (Nat.le_of_ble_eq_true rfl) (by omega) (Nat.le_of_ble_eq_true rfl) (q := 15) rfl (fun v wd hpost => ?_)
  obtain ⟨rfl, rfl⟩ := hpost
  dsimp only [List.cons_append, List.nil_append, Option.toList]
  refine j_ald_n o dX1_ofBucket_15 rfl rfl (q := 16) rfl ?_
  refine j_ild_n o dX1_ofBucket_16 rfl (q := 17) rfl ?_
  refine j_ild_n o dX1_ofBucket_17 rfl (q := 18) rfl ?_
  refine j_callV0 o (ctX1_ofBucketNow hG _ (hD.mono (fun _ => jmr)) hI hb hw) dX1_ofBucket_18 q697 wdX1_ofBucketNow mdX1_ofBucketNow (jb a1) (by rfl) (by rfl) rfl (Nat.le_of_ble_eq_true rfl) (Nat.le_of_ble_eq_true rfl) (by omega) (Nat.le_of_ble_eq_true rfl) (q := 21) rfl (fun v wd hpost => ?_)
  obtain ⟨rfl, rfl⟩ := hpost
  dsimp only [List.cons_append, List.nil_append, Option.toList]
  exact j_ret o r dX1_ofBucket_21 rfl [] _ rfl (⟨rfl, rfl⟩) (by omega)
theorem ctxX1_ofBucketI {l : Launch} {g : jG} (hG : GS l g) (bg : va_W) {x : Nat} {D : Dk} {p q : Int32} (hD : rD g bg x D) (hI : InvD D) (h : ¬ inI ((fB (dF D)).length - 1) p) : EX1_ofBucket l g 9 1 [.ref x, .int p, .int q] bg xIOB := by
  obtain ⟨f, kk, lg, cl, io, mk, hf, hk9, ess, essk, xs, c0, c1, c2, mv, a1, -⟩ := id hD
  refine CtrX.of [some (.ref x), some (.int p), some (.int q)] hG (by decide +kernel) rfl (Nat.le_of_ble_eq_true rfl) (fun Y hl hN0 o r => ?_)
  subst hl
  have hN : ∀ i, i < 3 → i < yN Y := fun i h => by rw [hN0]; exact h
  refine j_ald_n o dX1_ofBucket_0 rfl rfl (q := 1) rfl ?_
  refine j_ild_n o dX1_ofBucket_1 rfl (q := 2) rfl ?_
  exact j_callXV o (ctxX1_mustBeBucket hG _ (hD.mono (fun _ => jmr)) hI h) dX1_ofBucket_2 q1322 wdX1_mustBeBucket mdX1_mustBeBucket (jb a1) (by rfl) (by rfl) rfl (Nat.le_of_ble_eq_true rfl) (Nat.le_of_ble_eq_true rfl) (by omega) (Nat.le_of_ble_eq_true rfl) (j_outX o r (by omega))
theorem ctxX1_ofBucketA {l : Launch} {g : jG} (hG : GS l g) (bg : va_W) {x b : Nat} {D : Dk} {q : Int32} (hD : rD g bg x D) (hI : InvD D) (hb : b < (fB (dF D)).length) (h : ¬ inI 5 q) : EX1_ofBucket l g 9 1 [.ref x, .int (nI b), .int q] bg xIAE := by
  obtain ⟨f, kk, lg, cl, io, mk, hf, hk9, ess, essk, xs, c0, c1, c2, mv, a1, a2, hE, a4, -⟩ := id hD
  obtain ⟨bl, tk, qs, r1, r2, r3, r4, r5, r6⟩ := id a2
  have f4 := hI.1.1.1.2.2.2.1
  obtain ⟨qb, hqb⟩ := get_ex (xs := qs) (i := b) (by omega)
  obtain ⟨es, hes⟩ := get_ex (xs := ess) (i := b) (by omega)
  obtain ⟨chn, ps, b1, b2, b3⟩ := r6 _ _ _ _ hqb (bAt_ex hb) hes
  refine CtrX.of [some (.ref x), some (.int (nI b)), some (.int q)] hG (by decide +kernel) rfl (Nat.le_of_ble_eq_true rfl) (fun Y hl hN0 o r => ?_)
  subst hl
  have hN : ∀ i, i < 3 → i < yN Y := fun i h => by rw [hN0]; exact h
  refine j_ald_n o dX1_ofBucket_0 rfl rfl (q := 1) rfl ?_
  refine j_ild_n o dX1_ofBucket_1 rfl (q := 2) rfl ?_
  refine j_callV0 o (ctX1_mustBeBucket hG _ (n := dN D) (q := 0) (F := fK5 (dF D)) (e9 := bkO 0 0) (jmr a1) (jmr r1) (r3.mono (fun _ => jmr)) (by omega) hqb (jmr b1)) dX1_ofBucket_2 q1322 wdX1_mustBeBucket mdX1_mustBeBucket (jb a1) (by rfl) (by rfl) rfl (Nat.le_of_ble_eq_true rfl) (Nat.le_of_ble_eq_true rfl) (by omega) (Nat.le_of_ble_eq_true rfl) (q := 5) rfl (fun v wd hpost => ?_)
  obtain ⟨rfl, rfl⟩ := hpost
  dsimp only [List.cons_append, List.nil_append, Option.toList]
  refine j_pop o dX1_ofBucket_5 rfl (q := 6) rfl ?_
  refine j_ild_n o dX1_ofBucket_6 rfl (q := 7) rfl ?_
  refine j_iconst o (nI 0) dX1_ofBucket_7 (by decide) (q := 8) rfl ?_
  refine j_iconst o (nI 5) dX1_ofBucket_8 (by decide) (q := 9) rfl ?_
  refine j_callS0 o (ctX1_isIn hG _ _ _ _) dX1_ofBucket_9 q1057 wdX1_isIn mdX1_isIn rfl (Nat.le_of_ble_eq_true rfl) (Nat.le_of_ble_eq_true rfl) (by omega) (Nat.le_of_ble_eq_true rfl) (q := 12) rfl (fun v wd hpost => ?_)
  obtain ⟨rfl, rfl⟩ := hpost
  dsimp only [List.cons_append, List.nil_append, Option.toList]
  rw [isIn0 h]
  exact j_callXS o (ctxX1_mustFit hG _) dX1_ofBucket_12 q1060 wdX1_mustFit mdX1_mustFit rfl (Nat.le_of_ble_eq_true rfl) (Nat.le_of_ble_eq_true rfl) (by omega) (Nat.le_of_ble_eq_true rfl) (j_outX o r (by omega))
/-- page p is the k-th of bucket b -/
def pgIs (B : List Bkt) (p b k : Nat) : Prop := b < B.length ∧ (bAt B b).2.1[k]? = some p
def pgNo (B : List Bkt) (p : Nat) : Prop := ∀ b, b < B.length → p ∉ (bAt B b).2.1
theorem nodup_ix {xs : List Nat} {i j x : Nat} (h : xs.Nodup) (h1 : xs[i]? = some x) (h2 : xs[j]? = some x) : i = j := nodup_at h h1 h2
theorem pgIs.uniq {B : List Bkt} {p b k b2 k2 : Nat} (h : ndB B) (h1 : pgIs B p b k) (h2 : pgIs B p b2 k2) : b = b2 ∧ k = k2 := by
  have e := h.2 b b2 _ _ p (bAt_ex h1.1) (bAt_ex h2.1) (List.mem_of_getElem? h1.2) (List.mem_of_getElem? h2.2)
  subst e
  exact ⟨rfl, nodup_ix (h.1 _ (List.mem_of_getElem? (bAt_ex h1.1))) h1.2 h2.2⟩
theorem ctX1_placeOf {l : Launch} {g : jG} (hG : GS l g) (bg : va_W) {x p : Nat} {D : Dk} (hD : rD g bg x D) (hI : InvD D) (hp : p < 2 ^ 10) : KX1_placeOf l g 4 1 [.ref x, .int (nI p)] bg [] (fun y wd => (∃ a b k f9, pgIs (fB (dF D)) p b k ∧ y = some (.ref a) ∧ wd = [[(a, eA g 0 2 f9)]] ∧ f9 0 = nI b ∧ f9 1 = nI k) ∨ (pgNo (fB (dF D)) p ∧ y = some .null ∧ wd = [])) := by
  obtain ⟨f, kk, lg, cl, io, mk, hf, hk9, ess, essk, xs, c0, c1, c2, mv, a1, a2, hE, a4, -⟩ := id hD
  obtain ⟨bl, tk, qs, r1, r2, r3, r4, r5, r6⟩ := id a2
  obtain ⟨m5, b5, hz5, -⟩ := id r3
  have hfi := hI.1.1.1
  have f4 := hfi.2.2.2.1
  have hq : qs.length = (fB (dF D)).length := r4
  refine Ctr.of [some (.ref x), some (.int (nI p)), none, none, none] hG (by decide +kernel) rfl (Nat.le_of_ble_eq_true rfl) (fun Y hl hN0 o r hIni => ?_)
  subst hl
  have hN : ∀ i, i < 5 → i < yN Y := fun i h => by rw [hN0]; exact h
  have loop : ∀ (d b : Nat) (y3 y4 : Option Value), b + d = (fB (dF D)).length → (∀ b2, b2 < b → p ∉ (bAt (fB (dF D)) b2).2.1) → J g Y [] 0 2 [some (.ref x), some (.int (nI p)), some (.int (nI b)), y3, y4] [] := by
    intro d
    induction d with
    | zero =>
      intro b y3 y4 hb hno
      refine j_ild_n o dX1_placeOf_2 rfl (q := 3) rfl ?_
      refine j_ald_n o dX1_placeOf_3 rfl rfl (q := 4) rfl ?_
      refine j_gf o dX1_placeOf_4 (jb a1) kcX1 7 (Nat.le_of_ble_eq_true rfl) q360 rfl (q := 7) rfl ?_
      refine j_gf o dX1_placeOf_7 (jb r1) kcX2 9 (Nat.le_of_ble_eq_true rfl) q310 rfl (q := 10) rfl ?_
      refine j_callV0 o (ctJ2_size hG _ (jmr hz5)) dX1_placeOf_10 q398 wdJ2_size mdJ2_size (jb hz5) (by rfl) (by rfl) rfl (Nat.le_of_ble_eq_true rfl) (Nat.le_of_ble_eq_true rfl) (by omega) (Nat.le_of_ble_eq_true rfl) (q := 13) rfl (fun v wd hpost => ?_)
      obtain ⟨rfl, rfl⟩ := hpost
      dsimp only [List.cons_append, List.nil_append, Option.toList]
      refine j_icgeT o 87 dX1_placeOf_13 (by decide) (nI_le (by omega) (by omega)) ?_
      refine j_null o dX1_placeOf_87 (q := 88) rfl ?_
      exact j_aret o r dX1_placeOf_88 (by first | exact Or.inl ⟨_, rfl⟩ | exact Or.inr ⟨_, rfl⟩) rfl [] _ rfl (Or.inr ⟨fun b2 hb2 => hno b2 (by omega), rfl, rfl⟩) (by omega)
    | succ d ih =>
      intro b y3 y4 hb hno
      have hbl : b < (fB (dF D)).length := by omega
      obtain ⟨qb, hqb⟩ := get_ex (xs := qs) (i := b) (by omega)
      obtain ⟨es, hes⟩ := get_ex (xs := ess) (i := b) (by omega)
      have hB := bAt_ex hbl
      obtain ⟨chn, ps, b1, b2, b3⟩ := r6 _ _ _ _ hqb hB hes
      obtain ⟨m6, b6, hz6, -⟩ := id b2
      have hlen := b3.1
      have hm16 := hfi.m16 hbl
      refine j_ild_n o dX1_placeOf_2 rfl (q := 3) rfl ?_
      refine j_ald_n o dX1_placeOf_3 rfl rfl (q := 4) rfl ?_
      refine j_gf o dX1_placeOf_4 (jb a1) kcX1 7 (Nat.le_of_ble_eq_true rfl) q360 rfl (q := 7) rfl ?_
      refine j_gf o dX1_placeOf_7 (jb r1) kcX2 9 (Nat.le_of_ble_eq_true rfl) q310 rfl (q := 10) rfl ?_
      refine j_callV0 o (ctJ2_size hG _ (jmr hz5)) dX1_placeOf_10 q398 wdJ2_size mdJ2_size (jb hz5) (by rfl) (by rfl) rfl (Nat.le_of_ble_eq_true rfl) (Nat.le_of_ble_eq_true rfl) (by omega) (Nat.le_of_ble_eq_true rfl) (q := 13) rfl (fun v wd hpost => ?_)
      obtain ⟨rfl, rfl⟩ := hpost
      dsimp only [List.cons_append, List.nil_append, Option.toList]
      refine j_icgeF o (t := 87) dX1_placeOf_13 (by decide) (q := 16) rfl (nI_ge (by omega) (by omega)) ?_
      refine j_ald_n o dX1_placeOf_16 rfl rfl (q := 17) rfl ?_
      refine j_gf o dX1_placeOf_17 (jb a1) kcX1 7 (Nat.le_of_ble_eq_true rfl) q360 rfl (q := 20) rfl ?_
      refine j_gf o dX1_placeOf_20 (jb r1) kcX2 9 (Nat.le_of_ble_eq_true rfl) q310 rfl (q := 23) rfl ?_
      refine j_ild_n o dX1_placeOf_23 rfl (q := 24) rfl ?_
      refine j_callV0 o (ctJ2_get hG _ (r3.mono (fun _ => jmr)) hqb) dX1_placeOf_24 q466 wdJ2_get mdJ2_get (jb hz5) (by rfl) (by rfl) rfl (Nat.le_of_ble_eq_true rfl) (Nat.le_of_ble_eq_true rfl) (by omega) (Nat.le_of_ble_eq_true rfl) (q := 27) rfl (fun v wd hpost => ?_)
      obtain ⟨rfl, rfl⟩ := hpost
      dsimp only [List.cons_append, List.nil_append, Option.toList]
      refine j_castS (r := (RX4, TX4, 2)) o dX1_placeOf_27 q644 (jb b1) (ci := 4) rfl (q := 30) rfl ?_
      refine j_gf o dX1_placeOf_30 (jb b1) kcX4 0 (Nat.le_of_ble_eq_true rfl) q184 rfl (q := 33) rfl ?_
      refine j_ast3 o dX1_placeOf_33 rfl rfl (hN 3 (Nat.le_of_ble_eq_true rfl)) (q := 34) rfl ?_
      refine j_iconst o (nI 0) dX1_placeOf_34 (by decide) (q := 35) rfl ?_
      refine j_ist4 o dX1_placeOf_35 rfl (hN 4 (Nat.le_of_ble_eq_true rfl)) (q := 37) rfl ?_
      have inner : ∀ (d2 k : Nat), k + d2 = ps.length → (∀ k2, k2 < k → (bAt (fB (dF D)) b).2.1[k2]? ≠ some p) → J g Y [] 0 37 [some (.ref x), some (.int (nI p)), some (.int (nI b)), some (.ref chn), some (.int (nI k))] [] := by
        intro d2
        induction d2 with
        | zero =>
          intro k hk hno2
          refine j_ild o dX1_placeOf_37 rfl (q := 39) rfl ?_
          refine j_ald_n o dX1_placeOf_39 rfl rfl (q := 40) rfl ?_
          refine j_callV0 o (ctJ2_size hG _ (jmr hz6)) dX1_placeOf_40 q398 wdJ2_size mdJ2_size (jb hz6) (by rfl) (by rfl) rfl (Nat.le_of_ble_eq_true rfl) (Nat.le_of_ble_eq_true rfl) (by omega) (Nat.le_of_ble_eq_true rfl) (q := 43) rfl (fun v wd hpost => ?_)
          obtain ⟨rfl, rfl⟩ := hpost
          dsimp only [List.cons_append, List.nil_append, Option.toList]
          refine j_icgeT o 81 dX1_placeOf_43 (by decide) (nI_le (by omega) (by omega)) ?_
          refine j_inc2 o (nI (b + 1)) dX1_placeOf_81 (by first | exact nI_1 _ | exact pk_m1 _ | rfl) rfl (q := 84) rfl ?_
          refine j_goto o 2 dX1_placeOf_84 (by decide) ?_
          refine ih (b + 1) _ _ (by omega) (fun b2 hb2 => ?_)
          rcases Nat.lt_or_ge b2 b with h | h
          · exact hno b2 h
          · have e : b2 = b := by omega
            subst e
            intro hm
            obtain ⟨k2, hk2⟩ := List.getElem?_of_mem hm
            exact hno2 k2 (by have := get_lt hk2; omega) hk2
        | succ d2 ih2 =>
          intro k hk hno2
          obtain ⟨pa, hpa⟩ := get_ex (xs := ps) (i := k) (by omega)
          obtain ⟨n, rl, hn, hpc, hAp⟩ := b3.2 _ pa hpa
          have hn9 : n < 96 := (hfi.2.2.2.2.2.1.at hbl).2.2.2.2 n (List.mem_of_getElem? hn)
          refine j_ild o dX1_placeOf_37 rfl (q := 39) rfl ?_
          refine j_ald_n o dX1_placeOf_39 rfl rfl (q := 40) rfl ?_
          refine j_callV0 o (ctJ2_size hG _ (jmr hz6)) dX1_placeOf_40 q398 wdJ2_size mdJ2_size (jb hz6) (by rfl) (by rfl) rfl (Nat.le_of_ble_eq_true rfl) (Nat.le_of_ble_eq_true rfl) (by omega) (Nat.le_of_ble_eq_true rfl) (q := 43) rfl (fun v wd hpost => ?_)
          obtain ⟨rfl, rfl⟩ := hpost
          dsimp only [List.cons_append, List.nil_append, Option.toList]
          refine j_icgeF o (t := 81) dX1_placeOf_43 (by decide) (q := 46) rfl (nI_ge (by omega) (by omega)) ?_
          refine j_ald_n o dX1_placeOf_46 rfl rfl (q := 47) rfl ?_
          refine j_ild o dX1_placeOf_47 rfl (q := 49) rfl ?_
          refine j_callV0 o (ctJ2_get hG _ (b2.mono (fun _ => jmr)) hpa) dX1_placeOf_49 q466 wdJ2_get mdJ2_get (jb hz6) (by rfl) (by rfl) rfl (Nat.le_of_ble_eq_true rfl) (Nat.le_of_ble_eq_true rfl) (by omega) (Nat.le_of_ble_eq_true rfl) (q := 52) rfl (fun v wd hpost => ?_)
          obtain ⟨rfl, rfl⟩ := hpost
          dsimp only [List.cons_append, List.nil_append, Option.toList]
          refine j_castS (r := (RX5, TX5, 2)) o dX1_placeOf_52 q657 (jb hpc) (ci := 5) rfl (q := 55) rfl ?_
          refine j_gf o dX1_placeOf_55 (jb hpc) kcX5 0 (Nat.le_of_ble_eq_true rfl) q208 rfl (q := 58) rfl ?_
          refine j_ild_n o dX1_placeOf_58 rfl (q := 59) rfl ?_
          by_cases he : n = p
          · subst he
            refine j_icneF o (t := 75) dX1_placeOf_59 (by decide) (q := 62) rfl rfl ?_
            refine j_iconst o (nI 2) dX1_placeOf_62 (by decide) (q := 63) rfl ?_
            refine j_newI o 1 dX1_placeOf_63 (by first | decide | omega) (by omega) (by first | decide | omega) (q := 65) rfl (fun a hb_a => ?_)
            refine j_dup o dX1_placeOf_65 rfl (q := 66) rfl ?_
            refine j_iconst o (nI 0) dX1_placeOf_66 (by decide) (q := 67) rfl ?_
            refine j_ild_n o dX1_placeOf_67 rfl (q := 68) rfl ?_
            refine j_iast o dX1_placeOf_68 0 0 rfl rfl (by omega) (by omega) (q := 69) rfl ?_
            dsimp only [List.set]
            refine j_dup o dX1_placeOf_69 rfl (q := 70) rfl ?_
            refine j_iconst o (nI 1) dX1_placeOf_70 (by decide) (q := 71) rfl ?_
            refine j_ild o dX1_placeOf_71 rfl (q := 73) rfl ?_
            refine j_iast o dX1_placeOf_73 0 0 rfl rfl (by omega) (by omega) (q := 74) rfl ?_
            dsimp only [List.set]
            exact j_aret o r dX1_placeOf_74 (by first | exact Or.inl ⟨_, rfl⟩ | exact Or.inr ⟨_, rfl⟩) rfl [_] _ rfl (Or.inl ⟨a, b, k, _, ⟨hbl, hn⟩, rfl, rfl, rfl, rfl⟩) (by omega)
          · refine j_icneT o 75 dX1_placeOf_59 (by decide) (fun h => he ((nI_eq (by omega) (by omega)).mp h)) ?_
            refine j_inc4 o (nI (k + 1)) dX1_placeOf_75 (by first | exact nI_1 _ | exact pk_m1 _ | rfl) rfl (q := 78) rfl ?_
            refine j_goto o 37 dX1_placeOf_78 (by decide) ?_
            refine ih2 (k + 1) (by omega) (fun k2 hk2 => ?_)
            rcases Nat.lt_or_ge k2 k with h | h
            · exact hno2 k2 h
            · rw [show k2 = k by omega, hn]
              intro e
              exact he (Option.some.inj e)
      exact inner ps.length 0 (by omega) (fun k2 hk2 => by omega)
  refine j_iconst o (nI 0) dX1_placeOf_0 (by decide) (q := 1) rfl ?_
  refine j_ist2 o dX1_placeOf_1 rfl (hN 2 (Nat.le_of_ble_eq_true rfl)) (q := 2) rfl ?_
  exact loop (fB (dF D)).length 0 _ _ (by omega) (fun b2 hb2 => by omega)
/-- what a page is asked: its bucket, how many records are in it, the page behind it -/
def isPgA (F : Fl) (p what : Nat) (y : Int32) : Prop := (∃ b k, pgIs (fB F) p b k ∧ y = if what = 0 then nI b else if what = 1 then nI (min (fC F) ((bAt (fB F) b).1.length - k * fC F)) else match (bAt (fB F) b).2.1[k + 1]? with | some q => nI q | none => -1) ∨ (pgNo (fB F) p ∧ y = if what = 1 then 0 else -1)
theorem isPgA.uniq {F : Fl} {p what : Nat} {y1 y2 : Int32} (h : ndB (fB F)) (h1 : isPgA F p what y1) (h2 : isPgA F p what y2) : y1 = y2 := by
  rcases h1 with ⟨b, k, h1, rfl⟩ | ⟨h1, rfl⟩
  · rcases h2 with ⟨b2, k2, h2, rfl⟩ | ⟨h2, rfl⟩
    · obtain ⟨rfl, rfl⟩ := h1.uniq h h2
      rfl
    · exact absurd (List.mem_of_getElem? h1.2) (h2 b h1.1)
  · rcases h2 with ⟨b2, k2, h2, rfl⟩ | ⟨h2, rfl⟩
    · exact absurd (List.mem_of_getElem? h2.2) (h1 b2 h2.1)
    · rfl
theorem ctX1_ofPage {l : Launch} {g : jG} (hG : GS l g) (bg : va_W) {x p what : Nat} {D : Dk} (hD : rD g bg x D) (hI : InvD D) (hp : p ≤ 95) (hw : what ≤ 2) : KX1_ofPage l g 5 1 [.ref x, .int (nI p), .int (nI what)] bg [] (fun y wd => ∃ z, isPgA (dF D) p what z ∧ y = some (.int z) ∧ wd = []) := by
  obtain ⟨f, kk, lg, cl, io, mk, hf, hk9, ess, essk, xs, c0, c1, c2, mv, a1, a2, hE, a4, -⟩ := id hD
  obtain ⟨bl, tk, qs, r1, r2, r3, r4, r5, r6⟩ := id a2
  obtain ⟨m5, b5, hz5, -⟩ := id r3
  have hfi := hI.1.1.1
  have f4 := hfi.2.2.2.1
  have hq : qs.length = (fB (dF D)).length := r4
  refine Ctr.of [some (.ref x), some (.int (nI p)), some (.int (nI what)), none, none] hG (by decide +kernel) rfl (Nat.le_of_ble_eq_true rfl) (fun Y hl hN0 o r hIni => ?_)
  subst hl
  have hN : ∀ i, i < 5 → i < yN Y := fun i h => by rw [hN0]; exact h
  refine j_ild_n o dX1_ofPage_0 rfl (q := 1) rfl ?_
  refine j_iconst o (nI 0) dX1_ofPage_1 (by decide) (q := 2) rfl ?_
  refine j_bipush o (nI 95) dX1_ofPage_2 (by decide) (q := 4) rfl ?_
  refine j_callS0 o (ctX1_isIn hG _ _ _ _) dX1_ofPage_4 q1057 wdX1_isIn mdX1_isIn rfl (Nat.le_of_ble_eq_true rfl) (Nat.le_of_ble_eq_true rfl) (by omega) (Nat.le_of_ble_eq_true rfl) (q := 7) rfl (fun v wd hpost => ?_)
  obtain ⟨rfl, rfl⟩ := hpost
  dsimp only [List.cons_append, List.nil_append, Option.toList]
  rw [isIn1 ⟨Nat.zero_le _, hp⟩ (by omega)]
  refine j_callS0 o (ctX1_mustBe hG _ rfl) dX1_ofPage_7 q1227 wdX1_mustBe mdX1_mustBe rfl (Nat.le_of_ble_eq_true rfl) (Nat.le_of_ble_eq_true rfl) (by omega) (Nat.le_of_ble_eq_true rfl) (q := 10) rfl (fun v wd hpost => ?_)
  obtain ⟨rfl, rfl⟩ := hpost
  dsimp only [List.cons_append, List.nil_append, Option.toList]
  refine j_ild_n o dX1_ofPage_10 rfl (q := 11) rfl ?_
  refine j_iconst o (nI 0) dX1_ofPage_11 (by decide) (q := 12) rfl ?_
  refine j_iconst o (nI 2) dX1_ofPage_12 (by decide) (q := 13) rfl ?_
  refine j_callS0 o (ctX1_isIn hG _ _ _ _) dX1_ofPage_13 q1057 wdX1_isIn mdX1_isIn rfl (Nat.le_of_ble_eq_true rfl) (Nat.le_of_ble_eq_true rfl) (by omega) (Nat.le_of_ble_eq_true rfl) (q := 16) rfl (fun v wd hpost => ?_)
  obtain ⟨rfl, rfl⟩ := hpost
  dsimp only [List.cons_append, List.nil_append, Option.toList]
  rw [isIn1 ⟨Nat.zero_le _, hw⟩ (by omega)]
  refine j_callS0 o (ctX1_mustFit hG _ rfl) dX1_ofPage_16 q1060 wdX1_mustFit mdX1_mustFit rfl (Nat.le_of_ble_eq_true rfl) (Nat.le_of_ble_eq_true rfl) (by omega) (Nat.le_of_ble_eq_true rfl) (q := 19) rfl (fun v wd hpost => ?_)
  obtain ⟨rfl, rfl⟩ := hpost
  dsimp only [List.cons_append, List.nil_append, Option.toList]
  refine j_ald_n o dX1_ofPage_19 rfl rfl (q := 20) rfl ?_
  refine j_ild_n o dX1_ofPage_20 rfl (q := 21) rfl ?_
  refine j_callV0 o (ctX1_placeOf hG _ (hD.mono (fun _ => jmr)) hI (show p < 2 ^ 10 by omega)) dX1_ofPage_21 q1340 wdX1_placeOf mdX1_placeOf (jb a1) (by rfl) (by rfl) rfl (Nat.le_of_ble_eq_true rfl) (Nat.le_of_ble_eq_true rfl) (by omega) (Nat.le_of_ble_eq_true rfl) (q := 24) rfl (fun v wd hpost => ?_)
  obtain (⟨a, b, k, f9, hpg, rfl, rfl, h0, h1⟩ | ⟨hno, rfl, rfl⟩) := hpost
  dsimp only [List.cons_append, List.nil_append, Option.toList]
  · have hbl := hpg.1
    obtain ⟨qb, hqb⟩ := get_ex (xs := qs) (i := b) (by omega)
    obtain ⟨es, hes⟩ := get_ex (xs := ess) (i := b) (by omega)
    have hB := bAt_ex hbl
    obtain ⟨chn, ps, b1, b2, b3⟩ := r6 _ _ _ _ hqb hB hes
    obtain ⟨m6, b6, hz6, -⟩ := id b2
    have hlen := b3.1
    have hm16 := hfi.m16 hbl
    have hkl := get_lt hpg.2
    have hER := hE.2 _ es _ hes hB
    have hER1 := hER.1
    obtain ⟨pa, hpa⟩ := get_ex (xs := ps) (i := k) (by omega)
    obtain ⟨n, rl, hn, hpc, hAp⟩ := b3.2 _ pa hpa
    obtain ⟨m7, b7, hz7, -⟩ := id hAp
    refine j_ast3 o dX1_ofPage_24 rfl rfl (hN 3 (Nat.le_of_ble_eq_true rfl)) (q := 25) rfl ?_
    refine j_ald_n o dX1_ofPage_25 rfl rfl (q := 26) rfl ?_
    refine j_ifnn o 40 dX1_ofPage_26 (by decide) ?_
    refine j_ald_n o dX1_ofPage_40 rfl rfl (q := 41) rfl ?_
    refine j_gf o dX1_ofPage_41 (jb a1) kcX1 7 (Nat.le_of_ble_eq_true rfl) q360 rfl (q := 44) rfl ?_
    refine j_gf o dX1_ofPage_44 (jb r1) kcX2 9 (Nat.le_of_ble_eq_true rfl) q310 rfl (q := 47) rfl ?_
    refine j_ald_n o dX1_ofPage_47 rfl rfl (q := 48) rfl ?_
    refine j_iconst o (nI 0) dX1_ofPage_48 (by decide) (q := 49) rfl ?_
    refine j_iald o dX1_ofPage_49 (jw 0 0 rfl rfl) (by omega) (by omega) (q := 50) rfl ?_
    rw [h0]
    refine j_callV0 o (ctJ2_get hG _ (r3.mono (fun _ => jmr)) hqb) dX1_ofPage_50 q466 wdJ2_get mdJ2_get (jb hz5) (by rfl) (by rfl) rfl (Nat.le_of_ble_eq_true rfl) (Nat.le_of_ble_eq_true rfl) (by omega) (Nat.le_of_ble_eq_true rfl) (q := 53) rfl (fun v wd hpost => ?_)
    obtain ⟨rfl, rfl⟩ := hpost
    dsimp only [List.cons_append, List.nil_append, Option.toList]
    refine j_castS (r := (RX4, TX4, 2)) o dX1_ofPage_53 q644 (jb b1) (ci := 4) rfl (q := 56) rfl ?_
    refine j_gf o dX1_ofPage_56 (jb b1) kcX4 0 (Nat.le_of_ble_eq_true rfl) q184 rfl (q := 59) rfl ?_
    refine j_ast4 o dX1_ofPage_59 rfl rfl (hN 4 (Nat.le_of_ble_eq_true rfl)) (q := 61) rfl ?_
    refine j_ild_n o dX1_ofPage_61 rfl (q := 62) rfl ?_
    refine j_iconst o (nI 2) dX1_ofPage_62 (by decide) (q := 63) rfl ?_
    obtain rfl | rfl | rfl : what = 0 ∨ what = 1 ∨ what = 2 := by omega
    · refine j_icgeF o (t := 94) dX1_ofPage_63 (by decide) (q := 66) rfl (by decide) ?_
      refine j_ild_n o dX1_ofPage_66 rfl (q := 67) rfl ?_
      refine j_ifneF o (t := 76) dX1_ofPage_67 (by decide) (q := 70) rfl (by decide) ?_
      refine j_ald_n o dX1_ofPage_70 rfl rfl (q := 71) rfl ?_
      refine j_iconst o (nI 0) dX1_ofPage_71 (by decide) (q := 72) rfl ?_
      refine j_iald o dX1_ofPage_72 (jw 0 0 rfl rfl) (by omega) (by omega) (q := 73) rfl ?_
      rw [h0]
      refine j_goto o 93 dX1_ofPage_73 (by decide) ?_
      exact j_ret o r dX1_ofPage_93 rfl [] _ rfl (⟨_, Or.inl ⟨b, k, hpg, rfl⟩, rfl, rfl⟩) (by omega)
    · refine j_icgeF o (t := 94) dX1_ofPage_63 (by decide) (q := 66) rfl (by decide) ?_
      refine j_ild_n o dX1_ofPage_66 rfl (q := 67) rfl ?_
      refine j_ifneT o 76 dX1_ofPage_67 (by decide) (by decide) ?_
      refine j_ald o dX1_ofPage_76 rfl rfl (q := 78) rfl ?_
      refine j_ald_n o dX1_ofPage_78 rfl rfl (q := 79) rfl ?_
      refine j_iconst o (nI 1) dX1_ofPage_79 (by decide) (q := 80) rfl ?_
      refine j_iald o dX1_ofPage_80 (jw 0 0 rfl rfl) (by omega) (by omega) (q := 81) rfl ?_
      rw [h1]
      refine j_callV0 o (ctJ2_get hG _ (b2.mono (fun _ => jmr)) hpa) dX1_ofPage_81 q466 wdJ2_get mdJ2_get (jb hz6) (by rfl) (by rfl) rfl (Nat.le_of_ble_eq_true rfl) (Nat.le_of_ble_eq_true rfl) (by omega) (Nat.le_of_ble_eq_true rfl) (q := 84) rfl (fun v wd hpost => ?_)
      obtain ⟨rfl, rfl⟩ := hpost
      dsimp only [List.cons_append, List.nil_append, Option.toList]
      refine j_castS (r := (RX5, TX5, 2)) o dX1_ofPage_84 q657 (jb hpc) (ci := 5) rfl (q := 87) rfl ?_
      refine j_gf o dX1_ofPage_87 (jb hpc) kcX5 1 (Nat.le_of_ble_eq_true rfl) q211 rfl (q := 90) rfl ?_
      refine j_callV0 o (ctJ2_size hG _ (jmr hz7)) dX1_ofPage_90 q398 wdJ2_size mdJ2_size (jb hz7) (by rfl) (by rfl) rfl (Nat.le_of_ble_eq_true rfl) (Nat.le_of_ble_eq_true rfl) (by omega) (Nat.le_of_ble_eq_true rfl) (q := 93) rfl (fun v wd hpost => ?_)
      obtain ⟨rfl, rfl⟩ := hpost
      dsimp only [List.cons_append, List.nil_append, Option.toList]
      exact j_ret o r dX1_ofPage_93 rfl [] _ rfl (⟨_, Or.inl ⟨b, k, hpg, rfl⟩, by rw [pgE_len, hER1]; rfl, rfl⟩) (by omega)
    · refine j_icgeT o 94 dX1_ofPage_63 (by decide) (by decide) ?_
      refine j_ald_n o dX1_ofPage_94 rfl rfl (q := 95) rfl ?_
      refine j_iconst o (nI 1) dX1_ofPage_95 (by decide) (q := 96) rfl ?_
      refine j_iald o dX1_ofPage_96 (jw 0 0 rfl rfl) (by omega) (by omega) (q := 97) rfl ?_
      rw [h1]
      refine j_iconst o (nI 1) dX1_ofPage_97 (by decide) (q := 98) rfl ?_
      refine j_iadd o dX1_ofPage_98 (q := 99) rfl ?_
      refine j_topi o (nI (k + 1)) (nI_1 _) ?_
      refine j_ald o dX1_ofPage_99 rfl rfl (q := 101) rfl ?_
      refine j_callV0 o (ctJ2_size hG _ (jmr hz6)) dX1_ofPage_101 q398 wdJ2_size mdJ2_size (jb hz6) (by rfl) (by rfl) rfl (Nat.le_of_ble_eq_true rfl) (Nat.le_of_ble_eq_true rfl) (by omega) (Nat.le_of_ble_eq_true rfl) (q := 104) rfl (fun v wd hpost => ?_)
      obtain ⟨rfl, rfl⟩ := hpost
      dsimp only [List.cons_append, List.nil_append, Option.toList]
      by_cases hlast : k + 1 < (bAt (fB (dF D)) b).2.1.length
      · obtain ⟨pa2, hpa2⟩ := get_ex (xs := ps) (i := k + 1) (by omega)
        obtain ⟨n2, rl2, hn2, hpc2, hAp2⟩ := b3.2 _ pa2 hpa2
        refine j_icgeF o (t := 126) dX1_ofPage_104 (by decide) (q := 107) rfl (nI_ge (by omega) (by omega)) ?_
        refine j_ald o dX1_ofPage_107 rfl rfl (q := 109) rfl ?_
        refine j_ald_n o dX1_ofPage_109 rfl rfl (q := 110) rfl ?_
        refine j_iconst o (nI 1) dX1_ofPage_110 (by decide) (q := 111) rfl ?_
        refine j_iald o dX1_ofPage_111 (jw 0 0 rfl rfl) (by omega) (by omega) (q := 112) rfl ?_
        rw [h1]
        refine j_iconst o (nI 1) dX1_ofPage_112 (by decide) (q := 113) rfl ?_
        refine j_iadd o dX1_ofPage_113 (q := 114) rfl ?_
        refine j_topi o (nI (k + 1)) (nI_1 _) ?_
        refine j_callV0 o (ctJ2_get hG _ (b2.mono (fun _ => jmr)) hpa2) dX1_ofPage_114 q466 wdJ2_get mdJ2_get (jb hz6) (by rfl) (by rfl) rfl (Nat.le_of_ble_eq_true rfl) (Nat.le_of_ble_eq_true rfl) (by omega) (Nat.le_of_ble_eq_true rfl) (q := 117) rfl (fun v wd hpost => ?_)
        obtain ⟨rfl, rfl⟩ := hpost
        dsimp only [List.cons_append, List.nil_append, Option.toList]
        refine j_castS (r := (RX5, TX5, 2)) o dX1_ofPage_117 q657 (jb hpc2) (ci := 5) rfl (q := 120) rfl ?_
        refine j_gf o dX1_ofPage_120 (jb hpc2) kcX5 0 (Nat.le_of_ble_eq_true rfl) q208 rfl (q := 123) rfl ?_
        refine j_goto o 127 dX1_ofPage_123 (by decide) ?_
        exact j_ret o r dX1_ofPage_127 rfl [] _ rfl (⟨_, Or.inl ⟨b, k, hpg, by rw [hn2]; rfl⟩, rfl, rfl⟩) (by omega)
      · refine j_icgeT o 126 dX1_ofPage_104 (by decide) (nI_le (by omega) (by omega)) ?_
        refine j_iconst o (-1) dX1_ofPage_126 (by decide) (q := 127) rfl ?_
        exact j_ret o r dX1_ofPage_127 rfl [] _ rfl (⟨_, Or.inl ⟨b, k, hpg, by rw [List.getElem?_eq_none (by omega)]; rfl⟩, rfl, rfl⟩) (by omega)
  · refine j_ast3 o dX1_ofPage_24 rfl rfl (hN 3 (Nat.le_of_ble_eq_true rfl)) (q := 25) rfl ?_
    refine j_ald_n o dX1_ofPage_25 rfl rfl (q := 26) rfl ?_
    refine j_ifnnN o dX1_ofPage_26 (q := 29) rfl ?_
    refine j_ild_n o dX1_ofPage_29 rfl (q := 30) rfl ?_
    refine j_iconst o (nI 1) dX1_ofPage_30 (by decide) (q := 31) rfl ?_
    by_cases h1 : what = 1
    · subst h1
      refine j_icneF o (t := 38) dX1_ofPage_31 (by decide) (q := 34) rfl rfl ?_
      refine j_iconst o (nI 0) dX1_ofPage_34 (by decide) (q := 35) rfl ?_
      refine j_goto o 39 dX1_ofPage_35 (by decide) ?_
      exact j_ret o r dX1_ofPage_39 rfl [] _ rfl (⟨_, Or.inr ⟨hno, rfl⟩, rfl, rfl⟩) (by omega)
    · refine j_icneT o 38 dX1_ofPage_31 (by decide) (fun h => h1 ((nI_eq (by omega) (by omega)).mp h)) ?_
      refine j_iconst o (-1) dX1_ofPage_38 (by decide) (q := 39) rfl ?_
      exact j_ret o r dX1_ofPage_39 rfl [] _ rfl (⟨_, Or.inr ⟨hno, (if_neg h1).symm⟩, rfl, rfl⟩) (by omega)
theorem ctxX1_ofPageI {l : Launch} {g : jG} (hG : GS l g) (bg : va_W) {x : Nat} {p q : Int32} (h : ¬ inI 95 p) : EX1_ofPage l g 8 1 [.ref x, .int p, .int q] bg xIOB := by
  refine CtrX.of [some (.ref x), some (.int p), some (.int q), none, none] hG (by decide +kernel) rfl (Nat.le_of_ble_eq_true rfl) (fun Y hl hN0 o r => ?_)
  subst hl
  have hN : ∀ i, i < 5 → i < yN Y := fun i h => by rw [hN0]; exact h
  refine j_ild_n o dX1_ofPage_0 rfl (q := 1) rfl ?_
  refine j_iconst o (nI 0) dX1_ofPage_1 (by decide) (q := 2) rfl ?_
  refine j_bipush o (nI 95) dX1_ofPage_2 (by decide) (q := 4) rfl ?_
  refine j_callS0 o (ctX1_isIn hG _ _ _ _) dX1_ofPage_4 q1057 wdX1_isIn mdX1_isIn rfl (Nat.le_of_ble_eq_true rfl) (Nat.le_of_ble_eq_true rfl) (by omega) (Nat.le_of_ble_eq_true rfl) (q := 7) rfl (fun v wd hpost => ?_)
  obtain ⟨rfl, rfl⟩ := hpost
  dsimp only [List.cons_append, List.nil_append, Option.toList]
  rw [isIn0 h]
  exact j_callXS o (ctxX1_mustBe hG _) dX1_ofPage_7 q1227 wdX1_mustBe mdX1_mustBe rfl (Nat.le_of_ble_eq_true rfl) (Nat.le_of_ble_eq_true rfl) (by omega) (Nat.le_of_ble_eq_true rfl) (j_outX o r (by omega))
theorem ctxX1_ofPageA {l : Launch} {g : jG} (hG : GS l g) (bg : va_W) {x p : Nat} {q : Int32} (hp : p ≤ 95) (h : ¬ inI 2 q) : EX1_ofPage l g 8 1 [.ref x, .int (nI p), .int q] bg xIAE := by
  refine CtrX.of [some (.ref x), some (.int (nI p)), some (.int q), none, none] hG (by decide +kernel) rfl (Nat.le_of_ble_eq_true rfl) (fun Y hl hN0 o r => ?_)
  subst hl
  have hN : ∀ i, i < 5 → i < yN Y := fun i h => by rw [hN0]; exact h
  refine j_ild_n o dX1_ofPage_0 rfl (q := 1) rfl ?_
  refine j_iconst o (nI 0) dX1_ofPage_1 (by decide) (q := 2) rfl ?_
  refine j_bipush o (nI 95) dX1_ofPage_2 (by decide) (q := 4) rfl ?_
  refine j_callS0 o (ctX1_isIn hG _ _ _ _) dX1_ofPage_4 q1057 wdX1_isIn mdX1_isIn rfl (Nat.le_of_ble_eq_true rfl) (Nat.le_of_ble_eq_true rfl) (by omega) (Nat.le_of_ble_eq_true rfl) (q := 7) rfl (fun v wd hpost => ?_)
  obtain ⟨rfl, rfl⟩ := hpost
  dsimp only [List.cons_append, List.nil_append, Option.toList]
  rw [isIn1 ⟨Nat.zero_le _, hp⟩ (by omega)]
  refine j_callS0 o (ctX1_mustBe hG _ rfl) dX1_ofPage_7 q1227 wdX1_mustBe mdX1_mustBe rfl (Nat.le_of_ble_eq_true rfl) (Nat.le_of_ble_eq_true rfl) (by omega) (Nat.le_of_ble_eq_true rfl) (q := 10) rfl (fun v wd hpost => ?_)
  obtain ⟨rfl, rfl⟩ := hpost
  dsimp only [List.cons_append, List.nil_append, Option.toList]
  refine j_ild_n o dX1_ofPage_10 rfl (q := 11) rfl ?_
  refine j_iconst o (nI 0) dX1_ofPage_11 (by decide) (q := 12) rfl ?_
  refine j_iconst o (nI 2) dX1_ofPage_12 (by decide) (q := 13) rfl ?_
  refine j_callS0 o (ctX1_isIn hG _ _ _ _) dX1_ofPage_13 q1057 wdX1_isIn mdX1_isIn rfl (Nat.le_of_ble_eq_true rfl) (Nat.le_of_ble_eq_true rfl) (by omega) (Nat.le_of_ble_eq_true rfl) (q := 16) rfl (fun v wd hpost => ?_)
  obtain ⟨rfl, rfl⟩ := hpost
  dsimp only [List.cons_append, List.nil_append, Option.toList]
  rw [isIn0 h]
  exact j_callXS o (ctxX1_mustFit hG _) dX1_ofPage_16 q1060 wdX1_mustFit mdX1_mustFit rfl (Nat.le_of_ble_eq_true rfl) (Nat.le_of_ble_eq_true rfl) (by omega) (Nat.le_of_ble_eq_true rfl) (j_outX o r (by omega))

/-! THE DESK, fourteenth: what is asked of keys, the file, buckets -/
set_option maxRecDepth 100000
def keyA (F : Fl) (k : Nat) : Nat → Int32
  | 0 => nI (fHs F k)
  | 1 => nI (trn (fHs F k) 10)
  | 2 => nI (bOf (fCh F) (fSd F) (fB F) k)
  | 3 => nI (if (fBk F k).2.2 &&& mrk (fHs F k) = mrk (fHs F k) then 1 else 0)
  | 4 => if (fGt F k).isSome then nI ((fBk F k).2.1[plc (fBk F k).1 k / fC F]?.getD 0) else -1
  | _ => if (fGt F k).isSome then nI (plc (fBk F k).1 k % fC F) else -1
theorem keyA4 {F : Fl} {k : Nat} : keyA F k 4 = if (fGt F k).isSome then nI ((fBk F k).2.1[plc (fBk F k).1 k / fC F]?.getD 0) else -1 := rfl
theorem keyA5 {F : Fl} {k : Nat} : keyA F k 5 = if (fGt F k).isSome then nI (plc (fBk F k).1 k % fC F) else -1 := rfl
theorem ctX1_ofKeyNow {l : Launch} {g : jG} (hG : GS l g) (bg : va_W) {x k what : Nat} {D : Dk} (hD : rD g bg x D) (hI : InvD D) (hk : k ≤ 9999) (hw : what ≤ 5) : KX1_ofKeyNow l g 7 0 [.ref x, .int (nI k), .int (nI what)] bg [] (fun y wd => y = some (.int (keyA (dF D) k what)) ∧ wd = []) := by
  obtain ⟨f, kk, lg, cl, io, mk, hf, hk9, ess, essk, xs, c0, c1, c2, mv, a1, a2, hE, a4, -⟩ := hD
  obtain ⟨bl, tk, qs, r1, r2, r3, r4, r5, r6⟩ := id a2
  obtain ⟨hfi, had⟩ := hI.1.1
  have f3 := hfi.2.2.1
  have f4 := hfi.2.2.2.1
  have f5 := hfi.2.2.2.2.1
  have hi : bOf (fCh (dF D)) (fSd (dF D)) (fB (dF D)) k < (fB (dF D)).length := adr_lt (by omega)
  obtain ⟨qb, hqb⟩ := get_ex (xs := qs) (i := bOf (fCh (dF D)) (fSd (dF D)) (fB (dF D)) k) (by omega)
  obtain ⟨es, hes⟩ := get_ex (xs := ess) (i := bOf (fCh (dF D)) (fSd (dF D)) (fB (dF D)) k) (by omega)
  have hB := bAt_ex hi
  obtain ⟨chn, ps, b1, b2, b3⟩ := r6 _ _ _ _ hqb hB hes
  have hER := hE.2 _ es _ hes hB
  obtain ⟨k1, k2x, k3, k4, k5⟩ := hfi.2.2.2.2.2.1.at hi
  have hrw := rws_at hi
  have hks : ∀ r ∈ (fBk (dF D) k).1, r.1 < 2 ^ 31 := fun r hr => by
    have := ((had.own hi).1 r hr).1
    omega
  have hlv := lvl_lt (n := (fB (dF D)).length) (by omega)
  have hpl := ptr_le (n := (fB (dF D)).length)
  have hER1 := hER.1
  have hc0 : 0 < fC (dF D) := by have := hfi.1; omega
  have hhl := hsh_lt (fCh (dF D)) (fSd (dF D)) k
  have hb2 : bOf (fCh (dF D)) (fSd (dF D)) (fB (dF D)) k = ad (lvl (fB (dF D)).length) (ptr (fB (dF D)).length) (hsh (fCh (dF D)) (fSd (dF D)) k) := adr_ad f3 _
  refine Ctr.of [some (.ref x), some (.int (nI k)), some (.int (nI what)), none, none, none] hG (by decide +kernel) rfl (Nat.le_of_ble_eq_true rfl) (fun Y hl hN0 o r hIni => ?_)
  subst hl
  have hN : ∀ i, i < 6 → i < yN Y := fun i h => by rw [hN0]; exact h
  refine j_ald_n o dX1_ofKeyNow_0 rfl rfl (q := 1) rfl ?_
  refine j_gf o dX1_ofKeyNow_1 (jb a1) kcX1 7 (Nat.le_of_ble_eq_true rfl) q360 rfl (q := 4) rfl ?_
  refine j_gf o dX1_ofKeyNow_4 (jb r1) kcX2 8 (Nat.le_of_ble_eq_true rfl) q308 rfl (q := 7) rfl ?_
  refine j_ild_n o dX1_ofKeyNow_7 rfl (q := 8) rfl ?_
  refine j_callV0 o (ctX3_of hG _ (jmr a4) hI.1.2.1 hI.1.2.2.1 (by omega)) dX1_ofKeyNow_8 q646 wdX3_of mdX3_of (jb a4) (by rfl) (by rfl) rfl (Nat.le_of_ble_eq_true rfl) (Nat.le_of_ble_eq_true rfl) (by omega) (Nat.le_of_ble_eq_true rfl) (q := 11) rfl (fun v wd hpost => ?_)
  obtain ⟨rfl, rfl⟩ := hpost
  dsimp only [List.cons_append, List.nil_append, Option.toList]
  refine j_ist3 o dX1_ofKeyNow_11 rfl (hN 3 (Nat.le_of_ble_eq_true rfl)) (q := 12) rfl ?_
  refine j_ald_n o dX1_ofKeyNow_12 rfl rfl (q := 13) rfl ?_
  refine j_gf o dX1_ofKeyNow_13 (jb a1) kcX1 7 (Nat.le_of_ble_eq_true rfl) q360 rfl (q := 16) rfl ?_
  refine j_ild_n o dX1_ofKeyNow_16 rfl (q := 17) rfl ?_
  refine j_callV0 o (ctX2_bucketOf hG _ (F := fK5 (dF D)) (jmr r1) (jmr a4) (r3.mono (fun _ => jmr)) hlv (by omega) hI.1.2.1 hI.1.2.2.1 (by omega) (by rw [← adr_ad f3]; exact hqb) (jmr b1)) dX1_ofKeyNow_17 q1196 wdX2_bucketOf mdX2_bucketOf (jb r1) (by rfl) (by rfl) rfl (Nat.le_of_ble_eq_true rfl) (Nat.le_of_ble_eq_true rfl) (by omega) (Nat.le_of_ble_eq_true rfl) (q := 20) rfl (fun v wd hpost => ?_)
  obtain ⟨rfl, rfl⟩ := hpost
  dsimp only [List.cons_append, List.nil_append, Option.toList]
  refine j_ast4 o dX1_ofKeyNow_20 rfl rfl (hN 4 (Nat.le_of_ble_eq_true rfl)) (q := 22) rfl ?_
  refine j_ald o dX1_ofKeyNow_22 rfl rfl (q := 24) rfl ?_
  refine j_ild_n o dX1_ofKeyNow_24 rfl (q := 25) rfl ?_
  refine j_callV0 o (ctX4_pageOf hG _ (cap := fC (dF D)) (jmr b1) (b2.mono (fun _ => jmr)) (b3.mono (fun _ => jmr)) (hER.mono (fun _ => jmr)) (by rw [hER.1]; exact k2x) hc0 (by rw [hER.1]; omega) (show k < 2 ^ 31 by omega) hks) dX1_ofKeyNow_25 q1306 wdX4_pageOf mdX4_pageOf (jb b1) (by rfl) (by rfl) rfl (Nat.le_of_ble_eq_true rfl) (Nat.le_of_ble_eq_true rfl) (by omega) (Nat.le_of_ble_eq_true rfl) (q := 28) rfl (fun v wd hpost => ?_)
  obtain ⟨hx, rfl⟩ := hpost
  dsimp only [List.cons_append, List.nil_append, Option.toList]
  have hx : ((∃ i p, jFst ((fBk (dF D) k).1.map (·.1)) k i ∧ ps[i / fC (dF D)]? = some p ∧ v = some (.ref p)) ∨ (k ∉ (fBk (dF D) k).1.map (·.1) ∧ v = some .null)) := hx
  obtain ⟨pv, rfl⟩ : ∃ pv, v = some pv := by
    rcases hx with ⟨i, p, -, -, rfl⟩ | ⟨-, rfl⟩ <;> exact ⟨_, rfl⟩
  have hpv : jrv pv = true := by
    rcases hx with ⟨i, p, -, -, e⟩ | ⟨-, e⟩ <;> cases e <;> rfl
  dsimp only [Option.toList, List.cons_append, List.nil_append]
  refine j_ast5 o dX1_ofKeyNow_28 hpv rfl (hN 5 (Nat.le_of_ble_eq_true rfl)) (q := 30) rfl ?_
  refine j_ild_n o dX1_ofKeyNow_30 rfl (q := 31) rfl ?_
  obtain rfl | rfl | rfl | rfl | rfl | rfl : what = 0 ∨ what = 1 ∨ what = 2 ∨ what = 3 ∨ what = 4 ∨ what = 5 := by omega
  · refine j_tableIn o 64 dX1_ofKeyNow_31 (by decide) (by decide) rfl (by decide) ?_
    refine j_ild_n o dX1_ofKeyNow_64 rfl (q := 65) rfl ?_
    exact j_ret o r dX1_ofKeyNow_65 rfl [] _ rfl (⟨rfl, rfl⟩) (by omega)
  · refine j_tableIn o 66 dX1_ofKeyNow_31 (by decide) (by decide) rfl (by decide) ?_
    refine j_ald_n o dX1_ofKeyNow_66 rfl rfl (q := 67) rfl ?_
    refine j_gf o dX1_ofKeyNow_67 (jb a1) kcX1 7 (Nat.le_of_ble_eq_true rfl) q360 rfl (q := 70) rfl ?_
    refine j_gf o dX1_ofKeyNow_70 (jb r1) kcX2 8 (Nat.le_of_ble_eq_true rfl) q308 rfl (q := 73) rfl ?_
    refine j_ild_n o dX1_ofKeyNow_73 rfl (q := 74) rfl ?_
    refine j_callV0 o (ctX3_turned hG _ (jmr a4) hI.1.2.1 hI.1.2.2.1 (by omega)) dX1_ofKeyNow_74 q1307 wdX3_turned mdX3_turned (jb a4) (by rfl) (by rfl) rfl (Nat.le_of_ble_eq_true rfl) (Nat.le_of_ble_eq_true rfl) (by omega) (Nat.le_of_ble_eq_true rfl) (q := 77) rfl (fun v wd hpost => ?_)
    obtain ⟨rfl, rfl⟩ := hpost
    dsimp only [List.cons_append, List.nil_append, Option.toList]
    exact j_ret o r dX1_ofKeyNow_77 rfl [] _ rfl (⟨rfl, rfl⟩) (by omega)
  · refine j_tableIn o 78 dX1_ofKeyNow_31 (by decide) (by decide) rfl (by decide) ?_
    refine j_ald_n o dX1_ofKeyNow_78 rfl rfl (q := 79) rfl ?_
    refine j_gf o dX1_ofKeyNow_79 (jb a1) kcX1 7 (Nat.le_of_ble_eq_true rfl) q360 rfl (q := 82) rfl ?_
    refine j_ild_n o dX1_ofKeyNow_82 rfl (q := 83) rfl ?_
    refine j_callV0 o (ctX2_address hG _ (F := fK5 (dF D)) (jmr r1) hlv (by omega) (by omega)) dX1_ofKeyNow_83 q647 wdX2_address mdX2_address (jb r1) (by rfl) (by rfl) rfl (Nat.le_of_ble_eq_true rfl) (Nat.le_of_ble_eq_true rfl) (by omega) (Nat.le_of_ble_eq_true rfl) (q := 86) rfl (fun v wd hpost => ?_)
    obtain ⟨rfl, rfl⟩ := hpost
    dsimp only [List.cons_append, List.nil_append, Option.toList]
    exact j_ret o r dX1_ofKeyNow_86 rfl [] _ rfl (⟨by rw [← hb2]; rfl, rfl⟩) (by omega)
  · refine j_tableIn o 87 dX1_ofKeyNow_31 (by decide) (by decide) rfl (by decide) ?_
    refine j_ald o dX1_ofKeyNow_87 rfl rfl (q := 89) rfl ?_
    refine j_ild_n o dX1_ofKeyNow_89 rfl (q := 90) rfl ?_
    refine j_callV0 o (ctX4_lets hG _ (jmr b1) k4 (by omega)) dX1_ofKeyNow_90 q648 wdX4_lets mdX4_lets (jb b1) (by rfl) (by rfl) rfl (Nat.le_of_ble_eq_true rfl) (Nat.le_of_ble_eq_true rfl) (by omega) (Nat.le_of_ble_eq_true rfl) (q := 93) rfl (fun v wd hpost => ?_)
    obtain ⟨rfl, rfl⟩ := hpost
    dsimp only [List.cons_append, List.nil_append, Option.toList]
    refine j_callS0 o (ctX1_bit hG _ (by split <;> omega)) dX1_ofKeyNow_93 q1035 wdX1_bit mdX1_bit rfl (Nat.le_of_ble_eq_true rfl) (Nat.le_of_ble_eq_true rfl) (by omega) (Nat.le_of_ble_eq_true rfl) (q := 96) rfl (fun v wd hpost => ?_)
    obtain ⟨rfl, rfl⟩ := hpost
    dsimp only [List.cons_append, List.nil_append, Option.toList]
    exact j_ret o r dX1_ofKeyNow_96 rfl [] _ rfl (⟨rfl, rfl⟩) (by omega)
  · refine j_tableIn o 97 dX1_ofKeyNow_31 (by decide) (by decide) rfl (by decide) ?_
    rcases hx with ⟨i, p, hFs, hpp, e⟩ | ⟨hno, e⟩
    · cases e
      have hl9 := get_lt hFs.1
      rw [List.length_map] at hl9
      obtain ⟨r9, hr9⟩ := get_ex (xs := (fBk (dF D) k).1) (i := i) hl9
      obtain ⟨hg1, hg2⟩ := fGt_some hFs hr9
      obtain ⟨n, rl, hn, hpc, hAp⟩ := b3.2 _ p hpp
      refine j_ald o dX1_ofKeyNow_97 rfl rfl (q := 99) rfl ?_
      refine j_ifnn o 106 dX1_ofKeyNow_99 (by decide) ?_
      refine j_ald o dX1_ofKeyNow_106 rfl rfl (q := 108) rfl ?_
      refine j_gf o dX1_ofKeyNow_108 (jb hpc) kcX5 0 (Nat.le_of_ble_eq_true rfl) q208 rfl (q := 111) rfl ?_
      exact j_ret o r dX1_ofKeyNow_111 rfl [] _ rfl (⟨by rw [keyA4, if_pos (by rw [hg1]; rfl), hg2, show (fBk (dF D) k).2.1[i / fC (dF D)]? = some n from hn]; rfl, rfl⟩) (by omega)
    · cases e
      refine j_ald o dX1_ofKeyNow_97 rfl rfl (q := 99) rfl ?_
      refine j_ifnnN o dX1_ofKeyNow_99 (q := 102) rfl ?_
      refine j_iconst o (-1) dX1_ofKeyNow_102 (by decide) (q := 103) rfl ?_
      refine j_goto o 111 dX1_ofKeyNow_103 (by decide) ?_
      exact j_ret o r dX1_ofKeyNow_111 rfl [] _ rfl (⟨by rw [keyA4, if_neg (by rw [fGt_none hno]; decide)], rfl⟩) (by omega)
  · refine j_tableOut o 112 dX1_ofKeyNow_31 (by decide) (by decide) ?_
    rcases hx with ⟨i, p, hFs, hpp, e⟩ | ⟨hno, e⟩
    · cases e
      have hl9 := get_lt hFs.1
      rw [List.length_map] at hl9
      obtain ⟨r9, hr9⟩ := get_ex (xs := (fBk (dF D) k).1) (i := i) hl9
      obtain ⟨hg1, hg2⟩ := fGt_some hFs hr9
      obtain ⟨n, rl, hn, hpc, hAp⟩ := b3.2 _ p hpp
      have hdm : i / fC (dF D) * fC (dF D) ≤ i := Nat.div_mul_le_self _ _
      have hdm2 : i < i / fC (dF D) * fC (dF D) + fC (dF D) := by have := Nat.lt_div_mul_add (a := i) hc0; omega
      have hmd : i % fC (dF D) = i - i / fC (dF D) * fC (dF D) := by have := Nat.div_add_mod i (fC (dF D)); rw [Nat.mul_comm] at this; omega
      refine j_ald o dX1_ofKeyNow_112 rfl rfl (q := 114) rfl ?_
      refine j_ifnn o 121 dX1_ofKeyNow_114 (by decide) ?_
      refine j_ald o dX1_ofKeyNow_121 rfl rfl (q := 123) rfl ?_
      refine j_ild_n o dX1_ofKeyNow_123 rfl (q := 124) rfl ?_
      refine j_callS0 o (ctX1_placeIn hG _ (jmr hpc) (hAp.mono (fun _ => jmr)) ((hER.pg (fC (dF D)) (i / fC (dF D))).mono (fun _ => jmr)) (show k < 2 ^ 31 by omega) (fun r hr => hks r (List.mem_of_mem_drop (List.mem_of_mem_take hr)))) dX1_ofKeyNow_124 q1197 wdX1_placeIn mdX1_placeIn rfl (Nat.le_of_ble_eq_true rfl) (Nat.le_of_ble_eq_true rfl) (by omega) (Nat.le_of_ble_eq_true rfl) (q := 127) rfl (fun v wd hpost => ?_)
      obtain ⟨z, rfl, hz, rfl⟩ := hpost
      dsimp only [List.cons_append, List.nil_append, Option.toList]
      rw [map_pg] at hz
      have hz2 : z = nI (i % fC (dF D)) := by
        rcases hz with ⟨m, hm1, hm2, hm3, rfl⟩ | ⟨hm, rfl⟩
        · rw [pgE_len, List.length_map] at hm1
          have hmc : m < fC (dF D) := by omega
          rw [pgE_get hmc] at hm2
          have hF2 : jFst ((fBk (dF D) k).1.map (·.1)) k (i / fC (dF D) * fC (dF D) + m) := ⟨hm2, fun j hj => by
            rcases Nat.lt_or_ge j (i / fC (dF D) * fC (dF D)) with h9 | h9
            · exact hFs.2 j (by omega)
            · have h8 := hm3 (j - i / fC (dF D) * fC (dF D)) (by omega)
              rw [pgE_get (by omega), show i / fC (dF D) * fC (dF D) + (j - i / fC (dF D) * fC (dF D)) = j by omega] at h8
              exact h8⟩
          have := hFs.uniq hF2
          rw [hmd]
          congr 1
          omega
        · exfalso
          refine hm (List.mem_of_getElem? (i := i - i / fC (dF D) * fC (dF D)) ?_)
          rw [pgE_get (by omega), show i / fC (dF D) * fC (dF D) + (i - i / fC (dF D) * fC (dF D)) = i by omega]
          exact hFs.1
      exact j_ret o r dX1_ofKeyNow_127 rfl [] _ rfl (⟨by rw [keyA5, if_pos (by rw [hg1]; rfl), hg2, hz2], rfl⟩) (by omega)
    · cases e
      refine j_ald o dX1_ofKeyNow_112 rfl rfl (q := 114) rfl ?_
      refine j_ifnnN o dX1_ofKeyNow_114 (q := 117) rfl ?_
      refine j_iconst o (-1) dX1_ofKeyNow_117 (by decide) (q := 118) rfl ?_
      refine j_goto o 127 dX1_ofKeyNow_118 (by decide) ?_
      exact j_ret o r dX1_ofKeyNow_127 rfl [] _ rfl (⟨by rw [keyA5, if_neg (by rw [fGt_none hno]; decide)], rfl⟩) (by omega)
theorem ctX1_ofKey {l : Launch} {g : jG} (hG : GS l g) (bg : va_W) {x k what : Nat} {D : Dk} (hD : rD g bg x D) (hI : InvD D) (hk : k ≤ 9999) (hw : what ≤ 5) : KX1_ofKey l g 8 0 [.ref x, .int (nI k), .int (nI what)] bg [] (fun y wd => y = some (.int (keyA (dF D) k what)) ∧ wd = []) := by
  obtain ⟨f, kk, lg, cl, io, mk, hf, hk9, ess, essk, xs, c0, c1, c2, mv, a1, -⟩ := id hD
  refine Ctr.of [some (.ref x), some (.int (nI k)), some (.int (nI what))] hG (by decide +kernel) rfl (Nat.le_of_ble_eq_true rfl) (fun Y hl hN0 o r hIni => ?_)
  subst hl
  have hN : ∀ i, i < 3 → i < yN Y := fun i h => by rw [hN0]; exact h
  refine j_ild_n o dX1_ofKey_0 rfl (q := 1) rfl ?_
  refine j_iconst o (nI 0) dX1_ofKey_1 (by decide) (q := 2) rfl ?_
  refine j_sipush o (nI 9999) dX1_ofKey_2 (by decide) (q := 5) rfl ?_
  refine j_callS0 o (ctX1_isIn hG _ _ _ _) dX1_ofKey_5 q1057 wdX1_isIn mdX1_isIn rfl (Nat.le_of_ble_eq_true rfl) (Nat.le_of_ble_eq_true rfl) (by omega) (Nat.le_of_ble_eq_true rfl) (q := 8) rfl (fun v wd hpost => ?_)
  obtain ⟨rfl, rfl⟩ := hpost
  dsimp only [List.cons_append, List.nil_append, Option.toList]
  rw [isIn1 ⟨Nat.zero_le _, hk⟩ (by omega)]
  refine j_ifeqF o (t := 24) dX1_ofKey_8 (by decide) (q := 11) rfl (by decide) ?_
  refine j_ild_n o dX1_ofKey_11 rfl (q := 12) rfl ?_
  refine j_iconst o (nI 0) dX1_ofKey_12 (by decide) (q := 13) rfl ?_
  refine j_iconst o (nI 5) dX1_ofKey_13 (by decide) (q := 14) rfl ?_
  refine j_callS0 o (ctX1_isIn hG _ _ _ _) dX1_ofKey_14 q1057 wdX1_isIn mdX1_isIn rfl (Nat.le_of_ble_eq_true rfl) (Nat.le_of_ble_eq_true rfl) (by omega) (Nat.le_of_ble_eq_true rfl) (q := 17) rfl (fun v wd hpost => ?_)
  obtain ⟨rfl, rfl⟩ := hpost
  dsimp only [List.cons_append, List.nil_append, Option.toList]
  rw [isIn1 ⟨Nat.zero_le _, hw⟩ (by omega)]
  refine j_ifeqF o (t := 24) dX1_ofKey_17 (by decide) (q := 20) rfl (by decide) ?_
  refine j_iconst o (nI 1) dX1_ofKey_20 (by decide) (q := 21) rfl ?_
  refine j_goto o 25 dX1_ofKey_21 (by decide) ?_
  refine j_callS0 o (ctX1_mustFit hG _ rfl) dX1_ofKey_25 q1060 wdX1_mustFit mdX1_mustFit rfl (Nat.le_of_ble_eq_true rfl) (Nat.le_of_ble_eq_true rfl) (by omega) (Nat.le_of_ble_eq_true rfl) (q := 28) rfl (fun v wd hpost => ?_)
  obtain ⟨rfl, rfl⟩ := hpost
  dsimp only [List.cons_append, List.nil_append, Option.toList]
  refine j_ald_n o dX1_ofKey_28 rfl rfl (q := 29) rfl ?_
  refine j_ild_n o dX1_ofKey_29 rfl (q := 30) rfl ?_
  refine j_ild_n o dX1_ofKey_30 rfl (q := 31) rfl ?_
  refine j_callV0 o (ctX1_ofKeyNow hG _ (hD.mono (fun _ => jmr)) hI hk hw) dX1_ofKey_31 q1302 wdX1_ofKeyNow mdX1_ofKeyNow (jb a1) (by rfl) (by rfl) rfl (Nat.le_of_ble_eq_true rfl) (Nat.le_of_ble_eq_true rfl) (by omega) (Nat.le_of_ble_eq_true rfl) (q := 34) rfl (fun v wd hpost => ?_)
  obtain ⟨rfl, rfl⟩ := hpost
  dsimp only [List.cons_append, List.nil_append, Option.toList]
  exact j_ret o r dX1_ofKey_34 rfl [] _ rfl (⟨rfl, rfl⟩) (by omega)
theorem ctxX1_ofKey {l : Launch} {g : jG} (hG : GS l g) (bg : va_W) {x : Nat} {p q : Int32} (h : ¬ (inI 9999 p ∧ inI 5 q)) : EX1_ofKey l g 8 1 [.ref x, .int p, .int q] bg xIAE := by
  refine CtrX.of [some (.ref x), some (.int p), some (.int q)] hG (by decide +kernel) rfl (Nat.le_of_ble_eq_true rfl) (fun Y hl hN0 o r => ?_)
  subst hl
  have hN : ∀ i, i < 3 → i < yN Y := fun i h => by rw [hN0]; exact h
  refine j_ild_n o dX1_ofKey_0 rfl (q := 1) rfl ?_
  refine j_iconst o (nI 0) dX1_ofKey_1 (by decide) (q := 2) rfl ?_
  refine j_sipush o (nI 9999) dX1_ofKey_2 (by decide) (q := 5) rfl ?_
  refine j_callS0 o (ctX1_isIn hG _ _ _ _) dX1_ofKey_5 q1057 wdX1_isIn mdX1_isIn rfl (Nat.le_of_ble_eq_true rfl) (Nat.le_of_ble_eq_true rfl) (by omega) (Nat.le_of_ble_eq_true rfl) (q := 8) rfl (fun v wd hpost => ?_)
  obtain ⟨rfl, rfl⟩ := hpost
  dsimp only [List.cons_append, List.nil_append, Option.toList]
  by_cases h1 : inI 9999 p
  · rw [show (if nI 0 ≤ p ∧ p ≤ nI 9999 then 1 else 0 : Nat) = 1 from if_pos h1]
    refine j_ifeqF o (t := 24) dX1_ofKey_8 (by decide) (q := 11) rfl (by decide) ?_
    refine j_ild_n o dX1_ofKey_11 rfl (q := 12) rfl ?_
    refine j_iconst o (nI 0) dX1_ofKey_12 (by decide) (q := 13) rfl ?_
    refine j_iconst o (nI 5) dX1_ofKey_13 (by decide) (q := 14) rfl ?_
    refine j_callS0 o (ctX1_isIn hG _ _ _ _) dX1_ofKey_14 q1057 wdX1_isIn mdX1_isIn rfl (Nat.le_of_ble_eq_true rfl) (Nat.le_of_ble_eq_true rfl) (by omega) (Nat.le_of_ble_eq_true rfl) (q := 17) rfl (fun v wd hpost => ?_)
    obtain ⟨rfl, rfl⟩ := hpost
    dsimp only [List.cons_append, List.nil_append, Option.toList]
    rw [isIn0 (fun h2 => h ⟨h1, h2⟩)]
    refine j_ifeqT o 24 dX1_ofKey_17 (by decide) (by decide) ?_
    refine j_iconst o (nI 0) dX1_ofKey_24 (by decide) (q := 25) rfl ?_
    exact j_callXS o (ctxX1_mustFit hG _) dX1_ofKey_25 q1060 wdX1_mustFit mdX1_mustFit rfl (Nat.le_of_ble_eq_true rfl) (Nat.le_of_ble_eq_true rfl) (by omega) (Nat.le_of_ble_eq_true rfl) (j_outX o r (by omega))
  · rw [isIn0 h1]
    refine j_ifeqT o 24 dX1_ofKey_8 (by decide) (by decide) ?_
    refine j_iconst o (nI 0) dX1_ofKey_24 (by decide) (q := 25) rfl ?_
    exact j_callXS o (ctxX1_mustFit hG _) dX1_ofKey_25 q1060 wdX1_mustFit mdX1_mustFit rfl (Nat.le_of_ble_eq_true rfl) (Nat.le_of_ble_eq_true rfl) (by omega) (Nat.le_of_ble_eq_true rfl) (j_outX o r (by omega))
def flA (D : Dk) : Nat → Int32
  | 0 => nI (rws (fB (dF D)))
  | 1 => nI (fB (dF D)).length
  | 2 => nI (lvl (fB (dF D)).length)
  | 3 => nI (ptr (fB (dF D)).length)
  | 4 => nI (lod (fC (dF D)) (fB (dF D)))
  | 5 => nI (fLo (dF D))
  | 6 => nI (fUp (dF D))
  | 7 => nI (fC (dF D))
  | 8 => nI (fCh (dF D))
  | 9 => nI (fSd (dF D))
  | 10 => nI (usd (fB (dF D))).length
  | 11 => nI (lng (fB (dF D)))
  | 12 => nI (fSp (dF D))
  | 13 => nI (fMg (dF D))
  | 14 => nI (dN D).2.1
  | 15 => nI (dN D).2.2.1
  | 16 => nI (dN D).2.2.2.1
  | 17 => nI (dN D).2.2.2.2.1
  | 18 => nI (dA D).length
  | 19 => nI ((dA D).length - dFl D)
  | 20 => nI (dN D).1
  | _ => nI (dN D).2.2.2.2.2.1
theorem ctX1_ofDesk {l : Launch} {g : jG} (hG : GS l g) (bg : va_W) {x what : Nat} {D : Dk} (hD : rD g bg x D) (hI : InvD D) (hw : 14 ≤ what) (hw2 : what ≤ 21) : KX1_ofDesk l g 2 0 [.ref x, .int (nI what)] bg [] (fun y wd => y = some (.int (flA D what)) ∧ wd = []) := by
  obtain ⟨f, kk, lg, cl, io, mk, hf, hk9, ess, essk, xs, c0, c1, c2, mv, a1, a2, a3, a4, a5, a6, a7, a8, a9, -⟩ := hD
  obtain ⟨m5, b5, hz5, -⟩ := id a8
  have hfl := hI.2.2.2.2.1
  refine Ctr.of [some (.ref x), some (.int (nI what))] hG (by decide +kernel) rfl (Nat.le_of_ble_eq_true rfl) (fun Y hl hN0 o r hIni => ?_)
  subst hl
  have hN : ∀ i, i < 2 → i < yN Y := fun i h => by rw [hN0]; exact h
  refine j_ild_n o dX1_ofDesk_0 rfl (q := 1) rfl ?_
  obtain rfl | rfl | rfl | rfl | rfl | rfl | rfl | rfl : what = 14 ∨ what = 15 ∨ what = 16 ∨ what = 17 ∨ what = 18 ∨ what = 19 ∨ what = 20 ∨ what = 21 := by omega
  · refine j_tableIn o 44 dX1_ofDesk_1 (by decide) (by decide) rfl (by decide) ?_
    refine j_ald_n o dX1_ofDesk_44 rfl rfl (q := 45) rfl ?_
    refine j_gf o dX1_ofDesk_45 (jb a1) kcX1 1 (Nat.le_of_ble_eq_true rfl) q354 rfl (q := 48) rfl ?_
    exact j_ret o r dX1_ofDesk_48 rfl [] _ rfl (⟨rfl, rfl⟩) (by omega)
  · refine j_tableIn o 49 dX1_ofDesk_1 (by decide) (by decide) rfl (by decide) ?_
    refine j_ald_n o dX1_ofDesk_49 rfl rfl (q := 50) rfl ?_
    refine j_gf o dX1_ofDesk_50 (jb a1) kcX1 2 (Nat.le_of_ble_eq_true rfl) q355 rfl (q := 53) rfl ?_
    exact j_ret o r dX1_ofDesk_53 rfl [] _ rfl (⟨rfl, rfl⟩) (by omega)
  · refine j_tableIn o 54 dX1_ofDesk_1 (by decide) (by decide) rfl (by decide) ?_
    refine j_ald_n o dX1_ofDesk_54 rfl rfl (q := 55) rfl ?_
    refine j_gf o dX1_ofDesk_55 (jb a1) kcX1 3 (Nat.le_of_ble_eq_true rfl) q356 rfl (q := 58) rfl ?_
    exact j_ret o r dX1_ofDesk_58 rfl [] _ rfl (⟨rfl, rfl⟩) (by omega)
  · refine j_tableIn o 59 dX1_ofDesk_1 (by decide) (by decide) rfl (by decide) ?_
    refine j_ald_n o dX1_ofDesk_59 rfl rfl (q := 60) rfl ?_
    refine j_gf o dX1_ofDesk_60 (jb a1) kcX1 4 (Nat.le_of_ble_eq_true rfl) q357 rfl (q := 63) rfl ?_
    exact j_ret o r dX1_ofDesk_63 rfl [] _ rfl (⟨rfl, rfl⟩) (by omega)
  · refine j_tableIn o 64 dX1_ofDesk_1 (by decide) (by decide) rfl (by decide) ?_
    refine j_ald_n o dX1_ofDesk_64 rfl rfl (q := 65) rfl ?_
    refine j_gf o dX1_ofDesk_65 (jb a1) kcX1 9 (Nat.le_of_ble_eq_true rfl) q362 rfl (q := 68) rfl ?_
    refine j_callV0 o (ctJ2_size hG _ (jmr hz5)) dX1_ofDesk_68 q398 wdJ2_size mdJ2_size (jb hz5) (by rfl) (by rfl) rfl (Nat.le_of_ble_eq_true rfl) (Nat.le_of_ble_eq_true rfl) (by omega) (Nat.le_of_ble_eq_true rfl) (q := 71) rfl (fun v wd hpost => ?_)
    obtain ⟨rfl, rfl⟩ := hpost
    dsimp only [List.cons_append, List.nil_append, Option.toList]
    exact j_ret o r dX1_ofDesk_71 rfl [] _ rfl (⟨by rw [a9]; rfl, rfl⟩) (by omega)
  · refine j_tableIn o 72 dX1_ofDesk_1 (by decide) (by decide) rfl (by decide) ?_
    refine j_ald_n o dX1_ofDesk_72 rfl rfl (q := 73) rfl ?_
    refine j_gf o dX1_ofDesk_73 (jb a1) kcX1 9 (Nat.le_of_ble_eq_true rfl) q362 rfl (q := 76) rfl ?_
    refine j_callV0 o (ctJ2_size hG _ (jmr hz5)) dX1_ofDesk_76 q398 wdJ2_size mdJ2_size (jb hz5) (by rfl) (by rfl) rfl (Nat.le_of_ble_eq_true rfl) (Nat.le_of_ble_eq_true rfl) (by omega) (Nat.le_of_ble_eq_true rfl) (q := 79) rfl (fun v wd hpost => ?_)
    obtain ⟨rfl, rfl⟩ := hpost
    dsimp only [List.cons_append, List.nil_append, Option.toList]
    refine j_ald_n o dX1_ofDesk_79 rfl rfl (q := 80) rfl ?_
    refine j_gf o dX1_ofDesk_80 (jb a1) kcX1 6 (Nat.le_of_ble_eq_true rfl) q359 rfl (q := 83) rfl ?_
    refine j_isub o dX1_ofDesk_83 (q := 84) rfl ?_
    refine j_topi o (nI ((dA D).length - dFl D)) ((by rw [a9]; exact pk_sub hfl)) ?_
    exact j_ret o r dX1_ofDesk_84 rfl [] _ rfl (⟨rfl, rfl⟩) (by omega)
  · refine j_tableIn o 85 dX1_ofDesk_1 (by decide) (by decide) rfl (by decide) ?_
    refine j_ald_n o dX1_ofDesk_85 rfl rfl (q := 86) rfl ?_
    refine j_gf o dX1_ofDesk_86 (jb a1) kcX1 0 (Nat.le_of_ble_eq_true rfl) q353 rfl (q := 89) rfl ?_
    exact j_ret o r dX1_ofDesk_89 rfl [] _ rfl (⟨rfl, rfl⟩) (by omega)
  · refine j_tableOut o 90 dX1_ofDesk_1 (by decide) (by decide) ?_
    refine j_ald_n o dX1_ofDesk_90 rfl rfl (q := 91) rfl ?_
    refine j_gf o dX1_ofDesk_91 (jb a1) kcX1 5 (Nat.le_of_ble_eq_true rfl) q358 rfl (q := 94) rfl ?_
    exact j_ret o r dX1_ofDesk_94 rfl [] _ rfl (⟨rfl, rfl⟩) (by omega)
theorem ctX1_ofFileNow {l : Launch} {g : jG} (hG : GS l g) (bg : va_W) {x what : Nat} {D : Dk} (hD : rD g bg x D) (hI : InvD D) (hw2 : what ≤ 21) : KX1_ofFileNow l g 5 0 [.ref x, .int (nI what)] bg [] (fun y wd => y = some (.int (flA D what)) ∧ wd = []) := by
  obtain ⟨f, kk, lg, cl, io, mk, hf, hk9, ess, essk, xs, c0, c1, c2, mv, a1, a2, a3, a4, -⟩ := id hD
  obtain ⟨bl, tk, qs, r1, r2, r3, r4, r5, r6⟩ := id a2
  obtain ⟨m5, b5, hz5, -⟩ := id r3
  have hfit := hI.1.1.1
  have hq : qs.length = (fB (dF D)).length := r4
  refine Ctr.of [some (.ref x), some (.int (nI what))] hG (by decide +kernel) rfl (Nat.le_of_ble_eq_true rfl) (fun Y hl hN0 o r hIni => ?_)
  subst hl
  have hN : ∀ i, i < 2 → i < yN Y := fun i h => by rw [hN0]; exact h
  refine j_ild_n o dX1_ofFileNow_0 rfl (q := 1) rfl ?_
  by_cases h14 : 14 ≤ what
  · have hsw : ∀ n : Nat, 14 ≤ n → n ≤ 21 → (nI n).toInt < 0 ∨ 13 < (nI n).toInt := fun n h1 h2 => Or.inr (by
      rw [show nI n = Int32.ofNat n from rfl, Int32.toInt_ofNat_of_lt (by omega)]
      omega)
    refine j_tableOut o 193 dX1_ofFileNow_1 (hsw what h14 hw2) (by decide) ?_
    refine j_ald_n o dX1_ofFileNow_193 rfl rfl (q := 194) rfl ?_
    refine j_ild_n o dX1_ofFileNow_194 rfl (q := 195) rfl ?_
    refine j_callV0 o (ctX1_ofDesk hG _ (hD.mono (fun _ => jmr)) hI h14 hw2) dX1_ofFileNow_195 q685 wdX1_ofDesk mdX1_ofDesk (jb a1) (by rfl) (by rfl) rfl (Nat.le_of_ble_eq_true rfl) (Nat.le_of_ble_eq_true rfl) (by omega) (Nat.le_of_ble_eq_true rfl) (q := 198) rfl (fun v wd hpost => ?_)
    obtain ⟨rfl, rfl⟩ := hpost
    dsimp only [List.cons_append, List.nil_append, Option.toList]
    exact j_ret o r dX1_ofFileNow_198 rfl [] _ rfl (⟨rfl, rfl⟩) (by omega)
  obtain rfl | rfl | rfl | rfl | rfl | rfl | rfl | rfl | rfl | rfl | rfl | rfl | rfl | rfl : what = 0 ∨ what = 1 ∨ what = 2 ∨ what = 3 ∨ what = 4 ∨ what = 5 ∨ what = 6 ∨ what = 7 ∨ what = 8 ∨ what = 9 ∨ what = 10 ∨ what = 11 ∨ what = 12 ∨ what = 13 := by omega
  · refine j_tableIn o 72 dX1_ofFileNow_1 (by decide) (by decide) rfl (by decide) ?_
    refine j_ald_n o dX1_ofFileNow_72 rfl rfl (q := 73) rfl ?_
    refine j_gf o dX1_ofFileNow_73 (jb a1) kcX1 7 (Nat.le_of_ble_eq_true rfl) q360 rfl (q := 76) rfl ?_
    refine j_gf o dX1_ofFileNow_76 (jb r1) kcX2 5 (Nat.le_of_ble_eq_true rfl) q302 rfl (q := 79) rfl ?_
    exact j_ret o r dX1_ofFileNow_79 rfl [] _ rfl (⟨rfl, rfl⟩) (by omega)
  · refine j_tableIn o 80 dX1_ofFileNow_1 (by decide) (by decide) rfl (by decide) ?_
    refine j_ald_n o dX1_ofFileNow_80 rfl rfl (q := 81) rfl ?_
    refine j_gf o dX1_ofFileNow_81 (jb a1) kcX1 7 (Nat.le_of_ble_eq_true rfl) q360 rfl (q := 84) rfl ?_
    refine j_gf o dX1_ofFileNow_84 (jb r1) kcX2 9 (Nat.le_of_ble_eq_true rfl) q310 rfl (q := 87) rfl ?_
    refine j_callV0 o (ctJ2_size hG _ (jmr hz5)) dX1_ofFileNow_87 q398 wdJ2_size mdJ2_size (jb hz5) (by rfl) (by rfl) rfl (Nat.le_of_ble_eq_true rfl) (Nat.le_of_ble_eq_true rfl) (by omega) (Nat.le_of_ble_eq_true rfl) (q := 90) rfl (fun v wd hpost => ?_)
    obtain ⟨rfl, rfl⟩ := hpost
    dsimp only [List.cons_append, List.nil_append, Option.toList]
    exact j_ret o r dX1_ofFileNow_90 rfl [] _ rfl (⟨by rw [hq]; rfl, rfl⟩) (by omega)
  · refine j_tableIn o 91 dX1_ofFileNow_1 (by decide) (by decide) rfl (by decide) ?_
    refine j_ald_n o dX1_ofFileNow_91 rfl rfl (q := 92) rfl ?_
    refine j_gf o dX1_ofFileNow_92 (jb a1) kcX1 7 (Nat.le_of_ble_eq_true rfl) q360 rfl (q := 95) rfl ?_
    refine j_gf o dX1_ofFileNow_95 (jb r1) kcX2 3 (Nat.le_of_ble_eq_true rfl) q298 rfl (q := 98) rfl ?_
    exact j_ret o r dX1_ofFileNow_98 rfl [] _ rfl (⟨rfl, rfl⟩) (by omega)
  · refine j_tableIn o 99 dX1_ofFileNow_1 (by decide) (by decide) rfl (by decide) ?_
    refine j_ald_n o dX1_ofFileNow_99 rfl rfl (q := 100) rfl ?_
    refine j_gf o dX1_ofFileNow_100 (jb a1) kcX1 7 (Nat.le_of_ble_eq_true rfl) q360 rfl (q := 103) rfl ?_
    refine j_gf o dX1_ofFileNow_103 (jb r1) kcX2 4 (Nat.le_of_ble_eq_true rfl) q300 rfl (q := 106) rfl ?_
    exact j_ret o r dX1_ofFileNow_106 rfl [] _ rfl (⟨rfl, rfl⟩) (by omega)
  · refine j_tableIn o 107 dX1_ofFileNow_1 (by decide) (by decide) rfl (by decide) ?_
    refine j_ald_n o dX1_ofFileNow_107 rfl rfl (q := 108) rfl ?_
    refine j_gf o dX1_ofFileNow_108 (jb a1) kcX1 7 (Nat.le_of_ble_eq_true rfl) q360 rfl (q := 111) rfl ?_
    refine j_callV0 o (ctX2_load hG _ (jmr r1) (r3.mono (fun _ => jmr)) (by have := hfit.2.2.1; omega) (by show 0 < (dF D).1.1; have h9 : 2 ≤ (dF D).1.1 := hfit.1; omega) (by show (dF D).1.1 < 8; have h9 : (dF D).1.1 ≤ 4 := hfit.2.1; omega) (by have := hfit.2.2.2.2.1; omega)) dX1_ofFileNow_111 q679 wdX2_load mdX2_load (jb r1) (by rfl) (by rfl) rfl (Nat.le_of_ble_eq_true rfl) (Nat.le_of_ble_eq_true rfl) (by omega) (Nat.le_of_ble_eq_true rfl) (q := 114) rfl (fun v wd hpost => ?_)
    obtain ⟨rfl, rfl⟩ := hpost
    dsimp only [List.cons_append, List.nil_append, Option.toList]
    exact j_ret o r dX1_ofFileNow_114 rfl [] _ rfl (⟨by rw [hq]; rfl, rfl⟩) (by omega)
  · refine j_tableIn o 115 dX1_ofFileNow_1 (by decide) (by decide) rfl (by decide) ?_
    refine j_ald_n o dX1_ofFileNow_115 rfl rfl (q := 116) rfl ?_
    refine j_gf o dX1_ofFileNow_116 (jb a1) kcX1 7 (Nat.le_of_ble_eq_true rfl) q360 rfl (q := 119) rfl ?_
    refine j_gf o dX1_ofFileNow_119 (jb r1) kcX2 1 (Nat.le_of_ble_eq_true rfl) q293 rfl (q := 122) rfl ?_
    exact j_ret o r dX1_ofFileNow_122 rfl [] _ rfl (⟨rfl, rfl⟩) (by omega)
  · refine j_tableIn o 123 dX1_ofFileNow_1 (by decide) (by decide) rfl (by decide) ?_
    refine j_ald_n o dX1_ofFileNow_123 rfl rfl (q := 124) rfl ?_
    refine j_gf o dX1_ofFileNow_124 (jb a1) kcX1 7 (Nat.le_of_ble_eq_true rfl) q360 rfl (q := 127) rfl ?_
    refine j_gf o dX1_ofFileNow_127 (jb r1) kcX2 2 (Nat.le_of_ble_eq_true rfl) q296 rfl (q := 130) rfl ?_
    exact j_ret o r dX1_ofFileNow_130 rfl [] _ rfl (⟨rfl, rfl⟩) (by omega)
  · refine j_tableIn o 131 dX1_ofFileNow_1 (by decide) (by decide) rfl (by decide) ?_
    refine j_ald_n o dX1_ofFileNow_131 rfl rfl (q := 132) rfl ?_
    refine j_gf o dX1_ofFileNow_132 (jb a1) kcX1 7 (Nat.le_of_ble_eq_true rfl) q360 rfl (q := 135) rfl ?_
    refine j_gf o dX1_ofFileNow_135 (jb r1) kcX2 0 (Nat.le_of_ble_eq_true rfl) q290 rfl (q := 138) rfl ?_
    exact j_ret o r dX1_ofFileNow_138 rfl [] _ rfl (⟨rfl, rfl⟩) (by omega)
  · refine j_tableIn o 139 dX1_ofFileNow_1 (by decide) (by decide) rfl (by decide) ?_
    refine j_ald_n o dX1_ofFileNow_139 rfl rfl (q := 140) rfl ?_
    refine j_gf o dX1_ofFileNow_140 (jb a1) kcX1 7 (Nat.le_of_ble_eq_true rfl) q360 rfl (q := 143) rfl ?_
    refine j_gf o dX1_ofFileNow_143 (jb r1) kcX2 8 (Nat.le_of_ble_eq_true rfl) q308 rfl (q := 146) rfl ?_
    refine j_gf o dX1_ofFileNow_146 (jb a4) kcX3 0 (Nat.le_of_ble_eq_true rfl) q125 rfl (q := 149) rfl ?_
    exact j_ret o r dX1_ofFileNow_149 rfl [] _ rfl (⟨rfl, rfl⟩) (by omega)
  · refine j_tableIn o 150 dX1_ofFileNow_1 (by decide) (by decide) rfl (by decide) ?_
    refine j_ald_n o dX1_ofFileNow_150 rfl rfl (q := 151) rfl ?_
    refine j_gf o dX1_ofFileNow_151 (jb a1) kcX1 7 (Nat.le_of_ble_eq_true rfl) q360 rfl (q := 154) rfl ?_
    refine j_gf o dX1_ofFileNow_154 (jb r1) kcX2 8 (Nat.le_of_ble_eq_true rfl) q308 rfl (q := 157) rfl ?_
    refine j_gf o dX1_ofFileNow_157 (jb a4) kcX3 1 (Nat.le_of_ble_eq_true rfl) q127 rfl (q := 160) rfl ?_
    exact j_ret o r dX1_ofFileNow_160 rfl [] _ rfl (⟨rfl, rfl⟩) (by omega)
  · refine j_tableIn o 161 dX1_ofFileNow_1 (by decide) (by decide) rfl (by decide) ?_
    refine j_ald_n o dX1_ofFileNow_161 rfl rfl (q := 162) rfl ?_
    refine j_gf o dX1_ofFileNow_162 (jb a1) kcX1 7 (Nat.le_of_ble_eq_true rfl) q360 rfl (q := 165) rfl ?_
    refine j_callV0 o (ctX2_taken hG _ (jmr r1) (jmr r2)) dX1_ofFileNow_165 q662 wdX2_taken mdX2_taken (jb r1) (by rfl) (by rfl) rfl (Nat.le_of_ble_eq_true rfl) (Nat.le_of_ble_eq_true rfl) (by omega) (Nat.le_of_ble_eq_true rfl) (q := 168) rfl (fun v wd hpost => ?_)
    obtain ⟨rfl, rfl⟩ := hpost
    dsimp only [List.cons_append, List.nil_append, Option.toList]
    exact j_ret o r dX1_ofFileNow_168 rfl [] _ rfl (⟨by rw [usd_cnt hfit]; rfl, rfl⟩) (by omega)
  · refine j_tableIn o 169 dX1_ofFileNow_1 (by decide) (by decide) rfl (by decide) ?_
    refine j_ald_n o dX1_ofFileNow_169 rfl rfl (q := 170) rfl ?_
    refine j_gf o dX1_ofFileNow_170 (jb a1) kcX1 7 (Nat.le_of_ble_eq_true rfl) q360 rfl (q := 173) rfl ?_
    refine j_callV0 o (ctX2_longest hG _ (a2.mono (fun _ => jmr)) (fun b hb => by obtain ⟨i, hi⟩ := List.getElem?_of_mem hb; rw [← bAt_get hi]; exact hfit.m16 (get_lt hi))) dX1_ofFileNow_173 q680 wdX2_longest mdX2_longest (jb r1) (by rfl) (by rfl) rfl (Nat.le_of_ble_eq_true rfl) (Nat.le_of_ble_eq_true rfl) (by omega) (Nat.le_of_ble_eq_true rfl) (q := 176) rfl (fun v wd hpost => ?_)
    obtain ⟨rfl, rfl⟩ := hpost
    dsimp only [List.cons_append, List.nil_append, Option.toList]
    exact j_ret o r dX1_ofFileNow_176 rfl [] _ rfl (⟨rfl, rfl⟩) (by omega)
  · refine j_tableIn o 177 dX1_ofFileNow_1 (by decide) (by decide) rfl (by decide) ?_
    refine j_ald_n o dX1_ofFileNow_177 rfl rfl (q := 178) rfl ?_
    refine j_gf o dX1_ofFileNow_178 (jb a1) kcX1 7 (Nat.le_of_ble_eq_true rfl) q360 rfl (q := 181) rfl ?_
    refine j_gf o dX1_ofFileNow_181 (jb r1) kcX2 6 (Nat.le_of_ble_eq_true rfl) q304 rfl (q := 184) rfl ?_
    exact j_ret o r dX1_ofFileNow_184 rfl [] _ rfl (⟨rfl, rfl⟩) (by omega)
  · refine j_tableIn o 185 dX1_ofFileNow_1 (by decide) (by decide) rfl (by decide) ?_
    refine j_ald_n o dX1_ofFileNow_185 rfl rfl (q := 186) rfl ?_
    refine j_gf o dX1_ofFileNow_186 (jb a1) kcX1 7 (Nat.le_of_ble_eq_true rfl) q360 rfl (q := 189) rfl ?_
    refine j_gf o dX1_ofFileNow_189 (jb r1) kcX2 7 (Nat.le_of_ble_eq_true rfl) q306 rfl (q := 192) rfl ?_
    exact j_ret o r dX1_ofFileNow_192 rfl [] _ rfl (⟨rfl, rfl⟩) (by omega)
theorem ctX1_ofFile {l : Launch} {g : jG} (hG : GS l g) (bg : va_W) {x what : Nat} {D : Dk} (hD : rD g bg x D) (hI : InvD D) (hw2 : what ≤ 21) : KX1_ofFile l g 6 0 [.ref x, .int (nI what)] bg [] (fun y wd => y = some (.int (flA D what)) ∧ wd = []) := by
  obtain ⟨f, kk, lg, cl, io, mk, hf, hk9, ess, essk, xs, c0, c1, c2, mv, a1, -⟩ := id hD
  refine Ctr.of [some (.ref x), some (.int (nI what))] hG (by decide +kernel) rfl (Nat.le_of_ble_eq_true rfl) (fun Y hl hN0 o r hIni => ?_)
  subst hl
  have hN : ∀ i, i < 2 → i < yN Y := fun i h => by rw [hN0]; exact h
  refine j_ild_n o dX1_ofFile_0 rfl (q := 1) rfl ?_
  refine j_iconst o (nI 0) dX1_ofFile_1 (by decide) (q := 2) rfl ?_
  refine j_bipush o (nI 21) dX1_ofFile_2 (by decide) (q := 4) rfl ?_
  refine j_callS0 o (ctX1_isIn hG _ _ _ _) dX1_ofFile_4 q1057 wdX1_isIn mdX1_isIn rfl (Nat.le_of_ble_eq_true rfl) (Nat.le_of_ble_eq_true rfl) (by omega) (Nat.le_of_ble_eq_true rfl) (q := 7) rfl (fun v wd hpost => ?_)
  obtain ⟨rfl, rfl⟩ := hpost
  dsimp only [List.cons_append, List.nil_append, Option.toList]
  rw [isIn1 ⟨Nat.zero_le _, hw2⟩ (by omega)]
  refine j_callS0 o (ctX1_mustFit hG _ rfl) dX1_ofFile_7 q1060 wdX1_mustFit mdX1_mustFit rfl (Nat.le_of_ble_eq_true rfl) (Nat.le_of_ble_eq_true rfl) (by omega) (Nat.le_of_ble_eq_true rfl) (q := 10) rfl (fun v wd hpost => ?_)
  obtain ⟨rfl, rfl⟩ := hpost
  dsimp only [List.cons_append, List.nil_append, Option.toList]
  refine j_ald_n o dX1_ofFile_10 rfl rfl (q := 11) rfl ?_
  refine j_ild_n o dX1_ofFile_11 rfl (q := 12) rfl ?_
  refine j_callV0 o (ctX1_ofFileNow hG _ (hD.mono (fun _ => jmr)) hI hw2) dX1_ofFile_12 q675 wdX1_ofFileNow mdX1_ofFileNow (jb a1) (by rfl) (by rfl) rfl (Nat.le_of_ble_eq_true rfl) (Nat.le_of_ble_eq_true rfl) (by omega) (Nat.le_of_ble_eq_true rfl) (q := 15) rfl (fun v wd hpost => ?_)
  obtain ⟨rfl, rfl⟩ := hpost
  dsimp only [List.cons_append, List.nil_append, Option.toList]
  exact j_ret o r dX1_ofFile_15 rfl [] _ rfl (⟨rfl, rfl⟩) (by omega)
theorem ctxX1_ofFile {l : Launch} {g : jG} (hG : GS l g) (bg : va_W) {x : Nat} {p : Int32} (h : ¬ inI 21 p) : EX1_ofFile l g 8 1 [.ref x, .int p] bg xIAE := by
  refine CtrX.of [some (.ref x), some (.int p)] hG (by decide +kernel) rfl (Nat.le_of_ble_eq_true rfl) (fun Y hl hN0 o r => ?_)
  subst hl
  have hN : ∀ i, i < 2 → i < yN Y := fun i h => by rw [hN0]; exact h
  refine j_ild_n o dX1_ofFile_0 rfl (q := 1) rfl ?_
  refine j_iconst o (nI 0) dX1_ofFile_1 (by decide) (q := 2) rfl ?_
  refine j_bipush o (nI 21) dX1_ofFile_2 (by decide) (q := 4) rfl ?_
  refine j_callS0 o (ctX1_isIn hG _ _ _ _) dX1_ofFile_4 q1057 wdX1_isIn mdX1_isIn rfl (Nat.le_of_ble_eq_true rfl) (Nat.le_of_ble_eq_true rfl) (by omega) (Nat.le_of_ble_eq_true rfl) (q := 7) rfl (fun v wd hpost => ?_)
  obtain ⟨rfl, rfl⟩ := hpost
  dsimp only [List.cons_append, List.nil_append, Option.toList]
  rw [isIn0 h]
  exact j_callXS o (ctxX1_mustFit hG _) dX1_ofFile_7 q1060 wdX1_mustFit mdX1_mustFit rfl (Nat.le_of_ble_eq_true rfl) (Nat.le_of_ble_eq_true rfl) (by omega) (Nat.le_of_ble_eq_true rfl) (j_outX o r (by omega))

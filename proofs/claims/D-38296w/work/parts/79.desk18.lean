/-! THE DESK, eighteenth: whether all is sound -/
set_option maxRecDepth 100000
def seen (us : List Nat) (k : Nat) : Int32 := nI (if k ∈ us then 1 else 0)
theorem seen_cons {us : List Nat} {p j : Nat} : (if j = p then nI 1 else seen us j) = seen (us ++ [p]) j := by
  unfold seen
  by_cases h : j = p
  · rw [if_pos h, if_pos (by simp [h])]
  · rw [if_neg h]
    congr 1
    by_cases h2 : j ∈ us
    · rw [if_pos h2, if_pos (by simp [h2])]
    · rw [if_neg h2, if_neg (by simp [h2, h])]
theorem usd_take {B : List Bkt} {b : Nat} (hb : b < B.length) : usd (B.take (b + 1)) = usd (B.take b) ++ (bAt B b).2.1 := by
  rw [List.take_add_one, bAt_ex hb, usd, usd, List.flatMap_append]
  simp
theorem rws_take1 {B : List Bkt} {b : Nat} (hb : b < B.length) : rws (B.take (b + 1)) = rws (B.take b) + (bAt B b).1.length := by
  rw [List.take_add_one, bAt_ex hb, rws, rws, List.map_append, List.sum_append]
  simp
def uSnd (F : Fl) : Nat := 8 + uBh (fC F) (fB F)
theorem ctX1_isSoundNow {l : Launch} {g : jG} (hG : GS l g) (bg : va_W) {x : Nat} {D : Dk} (hD : rD g bg x D) (hI : InvD D) : KX1_isSoundNow l g 8 (uSnd (dF D)) [.ref x] bg [] (fun y wd => y = some (.int (nI 1)) ∧ wd = []) := by
  obtain ⟨f, kk, lg, cl, io, mk, hf, hk9, ess, essk, xs, c0, c1, c2, mv, a1, a2, hE, a4, a5, a6, a7, a8, a9, -⟩ := id hD
  obtain ⟨bl, tk, qs, r1, r2, r3, r4, r5, r6⟩ := id a2
  obtain ⟨m5, b5, hz5, -⟩ := id r3
  obtain ⟨m8, b8, hz8, -⟩ := id a8
  obtain ⟨hfi, had⟩ := hI.1.1
  have f3 := hfi.2.2.1
  have f4 := hfi.2.2.2.1
  have f5 := hfi.2.2.2.2.1
  have hq : qs.length = (fB (dF D)).length := r4
  have hnd := usd_nd hfi.2.2.2.2.2.2
  have hu96 := hfi.us
  have hfl := hI.2.2.2.2.1
  have hfl2 : (dN D).2.2.2.2.2.2 ≤ (dA D).length := hfl
  have h60 := hI.2.2.2.2.2.1
  have hgr := hI.2.2.2.2.2.2.1
  have hgr8 : (dN D).1 ≤ 8 := hI.2.2.2.2.2.2.2.1
  have hlt : (dA D).length - (dN D).2.2.2.2.2.2 < (dN D).1 := hI.2.2.2.2.2.2.2.2.1
  have hlv := lvl_lt (n := (fB (dF D)).length) (by omega)
  have hpl := ptr_le (n := (fB (dF D)).length)
  have hpb := ptr_lt (n := (fB (dF D)).length) (by omega)
  have hbl := bse_lvl f3
  have hb64 := bse_le64 (n := (fB (dF D)).length) (by omega)
  unfold uSnd
  refine Ctr.of [some (.ref x), none, none, none, none, none, none] hG (by decide +kernel) rfl (Nat.le_of_ble_eq_true rfl) (fun Y hl hN0 o r hIni => ?_)
  subst hl
  have hN : ∀ i, i < 7 → i < yN Y := fun i h => by rw [hN0]; exact h
  refine j_iconst o (nI 0) dX1_isSoundNow_0 (by decide) (q := 1) rfl ?_
  refine j_ist1 o dX1_isSoundNow_1 rfl (hN 1 (Nat.le_of_ble_eq_true rfl)) (q := 2) rfl ?_
  refine j_iconst o (nI 0) dX1_isSoundNow_2 (by decide) (q := 3) rfl ?_
  refine j_ist2 o dX1_isSoundNow_3 rfl (hN 2 (Nat.le_of_ble_eq_true rfl)) (q := 4) rfl ?_
  refine j_bipush o (nI 96) dX1_isSoundNow_4 (by decide) (q := 6) rfl ?_
  refine j_newZ o 8 dX1_isSoundNow_6 (by first | decide | omega) (by omega) (by first | decide | omega) (q := 8) rfl (fun sn hb_sn => ?_)
  refine j_ast3 o dX1_isSoundNow_8 rfl rfl (hN 3 (Nat.le_of_ble_eq_true rfl)) (q := 9) rfl ?_
  refine j_iconst o (nI 0) dX1_isSoundNow_9 (by decide) (q := 10) rfl ?_
  refine j_ist4 o dX1_isSoundNow_10 rfl (hN 4 (Nat.le_of_ble_eq_true rfl)) (q := 12) rfl ?_
  have loop : ∀ (d b u9 : Nat) (y5 y6 : Option Value), b + d = (fB (dF D)).length → u9 + uBh (fC (dF D)) ((fB (dF D)).drop b) ≤ 8 + uBh (fC (dF D)) (fB (dF D)) → J g Y [[(sn, eA g 1 96 (seen (usd ((fB (dF D)).take b))))]] u9 12 [some (.ref x), some (.int (nI (rws ((fB (dF D)).take b)))), some (.int (nI (usd ((fB (dF D)).take b)).length)), some (.ref sn), some (.int (nI b)), y5, y6] [] := by
    intro d
    induction d with
    | zero =>
      intro b u9 y5 y6 hb hu
      rw [List.take_of_length_le (by omega)]
      refine j_ild o dX1_isSoundNow_12 rfl (q := 14) rfl ?_
      refine j_ald_n o dX1_isSoundNow_14 rfl rfl (q := 15) rfl ?_
      refine j_gf o dX1_isSoundNow_15 (jb a1) kcX1 7 (Nat.le_of_ble_eq_true rfl) q360 rfl (q := 18) rfl ?_
      refine j_gf o dX1_isSoundNow_18 (jb r1) kcX2 9 (Nat.le_of_ble_eq_true rfl) q310 rfl (q := 21) rfl ?_
      refine j_callV0 o (ctJ2_size hG _ (jmr hz5)) dX1_isSoundNow_21 q398 wdJ2_size mdJ2_size (jb hz5) (by rfl) (by rfl) rfl (Nat.le_of_ble_eq_true rfl) (Nat.le_of_ble_eq_true rfl) (by omega) (Nat.le_of_ble_eq_true rfl) (q := 24) rfl (fun v wd hpost => ?_)
      obtain ⟨rfl, rfl⟩ := hpost
      dsimp only [List.cons_append, List.nil_append, Option.toList]
      refine j_icgeT o 143 dX1_isSoundNow_24 (by decide) (nI_le (by omega) (by omega)) ?_
      refine j_ald_n o dX1_isSoundNow_143 rfl rfl (q := 144) rfl ?_
      refine j_gf o dX1_isSoundNow_144 (jb a1) kcX1 9 (Nat.le_of_ble_eq_true rfl) q362 rfl (q := 147) rfl ?_
      refine j_callV0 o (ctJ2_size hG _ (jmr hz8)) dX1_isSoundNow_147 q398 wdJ2_size mdJ2_size (jb hz8) (by rfl) (by rfl) rfl (Nat.le_of_ble_eq_true rfl) (Nat.le_of_ble_eq_true rfl) (by omega) (Nat.le_of_ble_eq_true rfl) (q := 150) rfl (fun v wd hpost => ?_)
      obtain ⟨rfl, rfl⟩ := hpost
      dsimp only [List.cons_append, List.nil_append, Option.toList]
      refine j_ald_n o dX1_isSoundNow_150 rfl rfl (q := 151) rfl ?_
      refine j_gf o dX1_isSoundNow_151 (jb a1) kcX1 6 (Nat.le_of_ble_eq_true rfl) q359 rfl (q := 154) rfl ?_
      refine j_isub o dX1_isSoundNow_154 (q := 155) rfl ?_
      refine j_topi o (nI ((dA D).length - (dN D).2.2.2.2.2.2)) ((by rw [a9]; exact pk_sub hfl2)) ?_
      refine j_ald_n o dX1_isSoundNow_155 rfl rfl (q := 156) rfl ?_
      refine j_gf o dX1_isSoundNow_156 (jb a1) kcX1 0 (Nat.le_of_ble_eq_true rfl) q353 rfl (q := 159) rfl ?_
      refine j_icgeF o (t := 180) dX1_isSoundNow_159 (by decide) (q := 162) rfl (nI_ge hlt (by omega)) ?_
      refine j_ald_n o dX1_isSoundNow_162 rfl rfl (q := 163) rfl ?_
      refine j_gf o dX1_isSoundNow_163 (jb a1) kcX1 6 (Nat.le_of_ble_eq_true rfl) q359 rfl (q := 166) rfl ?_
      refine j_ald_n o dX1_isSoundNow_166 rfl rfl (q := 167) rfl ?_
      refine j_gf o dX1_isSoundNow_167 (jb a1) kcX1 9 (Nat.le_of_ble_eq_true rfl) q362 rfl (q := 170) rfl ?_
      refine j_callV0 o (ctJ2_size hG _ (jmr hz8)) dX1_isSoundNow_170 q398 wdJ2_size mdJ2_size (jb hz8) (by rfl) (by rfl) rfl (Nat.le_of_ble_eq_true rfl) (Nat.le_of_ble_eq_true rfl) (by omega) (Nat.le_of_ble_eq_true rfl) (q := 173) rfl (fun v wd hpost => ?_)
      obtain ⟨rfl, rfl⟩ := hpost
      dsimp only [List.cons_append, List.nil_append, Option.toList]
      refine j_icgtF o (t := 180) dX1_isSoundNow_173 (by decide) (q := 176) rfl (by rw [nI_ltI (by omega) (by omega)]; omega) ?_
      refine j_iconst o (nI 1) dX1_isSoundNow_176 (by decide) (q := 177) rfl ?_
      refine j_goto o 181 dX1_isSoundNow_177 (by decide) ?_
      refine j_ist4 o dX1_isSoundNow_181 rfl (hN 4 (Nat.le_of_ble_eq_true rfl)) (q := 183) rfl ?_
      refine j_ild o dX1_isSoundNow_183 rfl (q := 185) rfl ?_
      refine j_ifeqF o (t := 231) dX1_isSoundNow_185 (by decide) (q := 188) rfl (by decide) ?_
      refine j_ild_n o dX1_isSoundNow_188 rfl (q := 189) rfl ?_
      refine j_ald_n o dX1_isSoundNow_189 rfl rfl (q := 190) rfl ?_
      refine j_gf o dX1_isSoundNow_190 (jb a1) kcX1 7 (Nat.le_of_ble_eq_true rfl) q360 rfl (q := 193) rfl ?_
      refine j_gf o dX1_isSoundNow_193 (jb r1) kcX2 5 (Nat.le_of_ble_eq_true rfl) q302 rfl (q := 196) rfl ?_
      refine j_icneF o (t := 231) dX1_isSoundNow_196 (by decide) (q := 199) rfl rfl ?_
      refine j_ild_n o dX1_isSoundNow_199 rfl (q := 200) rfl ?_
      refine j_ald_n o dX1_isSoundNow_200 rfl rfl (q := 201) rfl ?_
      refine j_gf o dX1_isSoundNow_201 (jb a1) kcX1 7 (Nat.le_of_ble_eq_true rfl) q360 rfl (q := 204) rfl ?_
      refine j_callV0 o (ctX2_taken hG _ (jmr r1) (jmr r2)) dX1_isSoundNow_204 q662 wdX2_taken mdX2_taken (jb r1) (by rfl) (by rfl) rfl (Nat.le_of_ble_eq_true rfl) (Nat.le_of_ble_eq_true rfl) (by omega) (Nat.le_of_ble_eq_true rfl) (q := 207) rfl (fun v wd hpost => ?_)
      obtain ⟨rfl, rfl⟩ := hpost
      dsimp only [List.cons_append, List.nil_append, Option.toList]
      rw [usd_cnt hfi]
      refine j_icneF o (t := 231) dX1_isSoundNow_207 (by decide) (q := 210) rfl rfl ?_
      refine j_ald_n o dX1_isSoundNow_210 rfl rfl (q := 211) rfl ?_
      refine j_gf o dX1_isSoundNow_211 (jb a1) kcX1 7 (Nat.le_of_ble_eq_true rfl) q360 rfl (q := 214) rfl ?_
      refine j_gf o dX1_isSoundNow_214 (jb r1) kcX2 4 (Nat.le_of_ble_eq_true rfl) q300 rfl (q := 217) rfl ?_
      refine j_ald_n o dX1_isSoundNow_217 rfl rfl (q := 218) rfl ?_
      refine j_gf o dX1_isSoundNow_218 (jb a1) kcX1 7 (Nat.le_of_ble_eq_true rfl) q360 rfl (q := 221) rfl ?_
      refine j_callV0 o (ctX2_base hG _ (F := fK5 (dF D)) (jmr r1) hlv) dX1_isSoundNow_221 q669 wdX2_base mdX2_base (jb r1) (by rfl) (by rfl) rfl (Nat.le_of_ble_eq_true rfl) (Nat.le_of_ble_eq_true rfl) (by omega) (Nat.le_of_ble_eq_true rfl) (q := 224) rfl (fun v wd hpost => ?_)
      obtain ⟨rfl, rfl⟩ := hpost
      dsimp only [List.cons_append, List.nil_append, Option.toList]
      rw [hbl]
      refine j_icgeF o (t := 231) dX1_isSoundNow_224 (by decide) (q := 227) rfl (nI_ge hpb (by omega)) ?_
      refine j_iconst o (nI 1) dX1_isSoundNow_227 (by decide) (q := 228) rfl ?_
      refine j_goto o 232 dX1_isSoundNow_228 (by decide) ?_
      exact j_ret o r dX1_isSoundNow_232 rfl [] _ rfl (⟨rfl, rfl⟩) (by omega)
    | succ d ih =>
      intro b u9 y5 y6 hb hu
      have hbn : b < (fB (dF D)).length := by omega
      obtain ⟨qb, hqb⟩ := get_ex (xs := qs) (i := b) (by omega)
      obtain ⟨es, hes⟩ := get_ex (xs := ess) (i := b) (by omega)
      have hB := bAt_ex hbn
      have hbR := r6 _ _ _ _ hqb hB hes
      obtain ⟨chn, ps, b1, b2, b3⟩ := id hbR
      obtain ⟨m6, b6, hz6, -⟩ := id b2
      have hlen := b3.1
      have hm16 := hfi.m16 hbn
      have hER := hE.2 _ es _ hes hB
      have hER1 := hER.1
      have hrw := rws_at hbn
      have hut := usd_take hbn
      obtain ⟨k1, k2x, k3, k4, k5⟩ := hfi.2.2.2.2.2.1.at hbn
      have hd : (fB (dF D)).drop b = bAt (fB (dF D)) b :: (fB (dF D)).drop (b + 1) := (by rw [List.drop_eq_getElem_cons (by omega)]; congr 1; rw [List.getElem?_eq_getElem (by omega)] at hB; exact Option.some.inj hB)
      rw [hd] at hu
      have hu : u9 + (uBall (fC (dF D)) (bAt (fB (dF D)) b).1.length (bAt (fB (dF D)) b).2.1.length + uBh (fC (dF D)) ((fB (dF D)).drop (b + 1))) ≤ 8 + uBh (fC (dF D)) (fB (dF D)) := hu
      have hnd2 : (usd ((fB (dF D)).take (b + 1))).Nodup := by
        have : usd (fB (dF D)) = usd ((fB (dF D)).take (b + 1)) ++ usd ((fB (dF D)).drop (b + 1)) := by rw [usd, usd, usd, ← List.flatMap_append, List.take_append_drop]
        rw [this] at hnd
        exact (List.nodup_append.mp hnd).1
      rw [hut] at hnd2
      refine j_ild o dX1_isSoundNow_12 rfl (q := 14) rfl ?_
      refine j_ald_n o dX1_isSoundNow_14 rfl rfl (q := 15) rfl ?_
      refine j_gf o dX1_isSoundNow_15 (jb a1) kcX1 7 (Nat.le_of_ble_eq_true rfl) q360 rfl (q := 18) rfl ?_
      refine j_gf o dX1_isSoundNow_18 (jb r1) kcX2 9 (Nat.le_of_ble_eq_true rfl) q310 rfl (q := 21) rfl ?_
      refine j_callV0 o (ctJ2_size hG _ (jmr hz5)) dX1_isSoundNow_21 q398 wdJ2_size mdJ2_size (jb hz5) (by rfl) (by rfl) rfl (Nat.le_of_ble_eq_true rfl) (Nat.le_of_ble_eq_true rfl) (by omega) (Nat.le_of_ble_eq_true rfl) (q := 24) rfl (fun v wd hpost => ?_)
      obtain ⟨rfl, rfl⟩ := hpost
      dsimp only [List.cons_append, List.nil_append, Option.toList]
      refine j_icgeF o (t := 143) dX1_isSoundNow_24 (by decide) (q := 27) rfl (nI_ge (by omega) (by omega)) ?_
      refine j_ald_n o dX1_isSoundNow_27 rfl rfl (q := 28) rfl ?_
      refine j_ild o dX1_isSoundNow_28 rfl (q := 30) rfl ?_
      refine j_callV0 o (ctX1_isBucketSound hG _ (hD.mono (fun _ => jmr)) hI hbn) dX1_isSoundNow_30 q640 wdX1_isBucketSound mdX1_isBucketSound (jb a1) (by rfl) (by rfl) rfl (Nat.le_of_ble_eq_true rfl) (Nat.le_of_ble_eq_true rfl) (by omega) (Nat.le_of_ble_eq_true rfl) (q := 33) rfl (fun v wd hpost => ?_)
      obtain ⟨rfl, rfl⟩ := hpost
      dsimp only [List.cons_append, List.nil_append, Option.toList]
      refine j_ifneT o 38 dX1_isSoundNow_33 (by decide) (by decide) ?_
      refine j_ald_n o dX1_isSoundNow_38 rfl rfl (q := 39) rfl ?_
      refine j_gf o dX1_isSoundNow_39 (jb a1) kcX1 7 (Nat.le_of_ble_eq_true rfl) q360 rfl (q := 42) rfl ?_
      refine j_gf o dX1_isSoundNow_42 (jb r1) kcX2 9 (Nat.le_of_ble_eq_true rfl) q310 rfl (q := 45) rfl ?_
      refine j_ild o dX1_isSoundNow_45 rfl (q := 47) rfl ?_
      refine j_callV0 o (ctJ2_get hG _ (r3.mono (fun _ => jmr)) hqb) dX1_isSoundNow_47 q466 wdJ2_get mdJ2_get (jb hz5) (by rfl) (by rfl) rfl (Nat.le_of_ble_eq_true rfl) (Nat.le_of_ble_eq_true rfl) (by omega) (Nat.le_of_ble_eq_true rfl) (q := 50) rfl (fun v wd hpost => ?_)
      obtain ⟨rfl, rfl⟩ := hpost
      dsimp only [List.cons_append, List.nil_append, Option.toList]
      refine j_castS (r := (RX4, TX4, 2)) o dX1_isSoundNow_50 q644 (jb b1) (ci := 4) rfl (q := 53) rfl ?_
      refine j_gf o dX1_isSoundNow_53 (jb b1) kcX4 0 (Nat.le_of_ble_eq_true rfl) q184 rfl (q := 56) rfl ?_
      refine j_ast5 o dX1_isSoundNow_56 rfl rfl (hN 5 (Nat.le_of_ble_eq_true rfl)) (q := 58) rfl ?_
      refine j_iconst o (nI 0) dX1_isSoundNow_58 (by decide) (q := 59) rfl ?_
      refine j_ist6 o dX1_isSoundNow_59 rfl (hN 6 (Nat.le_of_ble_eq_true rfl)) (q := 61) rfl ?_
      have inner : ∀ (d2 k u8 : Nat), u8 = u9 + uBall (fC (dF D)) (bAt (fB (dF D)) b).1.length (bAt (fB (dF D)) b).2.1.length → k + d2 = ps.length → J g Y [[(sn, eA g 1 96 (seen (usd ((fB (dF D)).take b) ++ (bAt (fB (dF D)) b).2.1.take k)))]] u8 61 [some (.ref x), some (.int (nI (rws ((fB (dF D)).take b)))), some (.int (nI ((usd ((fB (dF D)).take b)).length + k))), some (.ref sn), some (.int (nI b)), some (.ref chn), some (.int (nI k))] [] := by
        intro d2
        induction d2 with
        | zero =>
          intro k u8 hu8 hk
          have hkl : k = (bAt (fB (dF D)) b).2.1.length := by omega
          rw [show (bAt (fB (dF D)) b).2.1.take k = (bAt (fB (dF D)) b).2.1 from List.take_of_length_le (by omega), ← hut]
          refine j_ild o dX1_isSoundNow_61 rfl (q := 63) rfl ?_
          refine j_ald o dX1_isSoundNow_63 rfl rfl (q := 65) rfl ?_
          refine j_callV0 o (ctJ2_size hG _ (jmr hz6)) dX1_isSoundNow_65 q398 wdJ2_size mdJ2_size (jb hz6) (by rfl) (by rfl) rfl (Nat.le_of_ble_eq_true rfl) (Nat.le_of_ble_eq_true rfl) (by omega) (Nat.le_of_ble_eq_true rfl) (q := 68) rfl (fun v wd hpost => ?_)
          obtain ⟨rfl, rfl⟩ := hpost
          dsimp only [List.cons_append, List.nil_append, Option.toList]
          refine j_icgeT o 116 dX1_isSoundNow_68 (by decide) (nI_le (by omega) (by omega)) ?_
          refine j_ild_n o dX1_isSoundNow_116 rfl (q := 117) rfl ?_
          refine j_ald_n o dX1_isSoundNow_117 rfl rfl (q := 118) rfl ?_
          refine j_gf o dX1_isSoundNow_118 (jb a1) kcX1 7 (Nat.le_of_ble_eq_true rfl) q360 rfl (q := 121) rfl ?_
          refine j_gf o dX1_isSoundNow_121 (jb r1) kcX2 9 (Nat.le_of_ble_eq_true rfl) q310 rfl (q := 124) rfl ?_
          refine j_ild o dX1_isSoundNow_124 rfl (q := 126) rfl ?_
          refine j_callV0 o (ctJ2_get hG _ (r3.mono (fun _ => jmr)) hqb) dX1_isSoundNow_126 q466 wdJ2_get mdJ2_get (jb hz5) (by rfl) (by rfl) rfl (Nat.le_of_ble_eq_true rfl) (Nat.le_of_ble_eq_true rfl) (by omega) (Nat.le_of_ble_eq_true rfl) (q := 129) rfl (fun v wd hpost => ?_)
          obtain ⟨rfl, rfl⟩ := hpost
          dsimp only [List.cons_append, List.nil_append, Option.toList]
          refine j_castS (r := (RX4, TX4, 2)) o dX1_isSoundNow_129 q644 (jb b1) (ci := 4) rfl (q := 132) rfl ?_
          refine j_callV0 o (ctX4_size hG _ (hbR.mono (fun _ => jmr)) (by rw [hER1]; exact k2x) (by omega)) dX1_isSoundNow_132 q658 wdX4_size mdX4_size (jb b1) (by rfl) (by rfl) rfl (Nat.le_of_ble_eq_true rfl) (Nat.le_of_ble_eq_true rfl) (by omega) (Nat.le_of_ble_eq_true rfl) (q := 135) rfl (fun v wd hpost => ?_)
          obtain ⟨rfl, rfl⟩ := hpost
          dsimp only [List.cons_append, List.nil_append, Option.toList]
          refine j_iadd o dX1_isSoundNow_135 (q := 136) rfl ?_
          refine j_topi o (nI (rws ((fB (dF D)).take (b + 1)))) ((by rw [nI_add, rws_take1 hbn, hER1])) ?_
          refine j_ist1 o dX1_isSoundNow_136 rfl (hN 1 (Nat.le_of_ble_eq_true rfl)) (q := 137) rfl ?_
          refine j_inc4 o (nI (b + 1)) dX1_isSoundNow_137 (by first | exact nI_1 _ | exact pk_m1 _ | rfl) rfl (q := 140) rfl ?_
          refine j_goto o 12 dX1_isSoundNow_140 (by decide) ?_
          have e9 : (usd ((fB (dF D)).take b)).length + k = (usd ((fB (dF D)).take (b + 1))).length := by rw [hut, List.length_append, hkl]
          rw [e9]
          exact ih (b + 1) _ _ _ (by omega) (by omega)
        | succ d2 ih2 =>
          intro k u8 hu8 hk
          obtain ⟨pa, hpa⟩ := get_ex (xs := ps) (i := k) (by omega)
          obtain ⟨n, rl, hn, hpc, hAp⟩ := b3.2 _ pa hpa
          have hn9 : n < 96 := k5 n (List.mem_of_getElem? hn)
          have htk : (bAt (fB (dF D)) b).2.1.take (k + 1) = (bAt (fB (dF D)) b).2.1.take k ++ [n] := by rw [List.take_add_one, hn]; rfl
          have hno : n ∉ usd ((fB (dF D)).take b) ++ (bAt (fB (dF D)) b).2.1.take k := by
            have h1 : (usd ((fB (dF D)).take b) ++ (bAt (fB (dF D)) b).2.1.take k ++ [n]).Nodup := by
              rw [List.append_assoc, ← htk]
              refine List.Nodup.sublist ?_ hnd2
              exact List.Sublist.append (List.Sublist.refl _) (List.take_sublist _ _)
            intro h
            exact (List.nodup_append.mp h1).2.2 n h n (by simp) rfl
          refine j_ild o dX1_isSoundNow_61 rfl (q := 63) rfl ?_
          refine j_ald o dX1_isSoundNow_63 rfl rfl (q := 65) rfl ?_
          refine j_callV0 o (ctJ2_size hG _ (jmr hz6)) dX1_isSoundNow_65 q398 wdJ2_size mdJ2_size (jb hz6) (by rfl) (by rfl) rfl (Nat.le_of_ble_eq_true rfl) (Nat.le_of_ble_eq_true rfl) (by omega) (Nat.le_of_ble_eq_true rfl) (q := 68) rfl (fun v wd hpost => ?_)
          obtain ⟨rfl, rfl⟩ := hpost
          dsimp only [List.cons_append, List.nil_append, Option.toList]
          refine j_icgeF o (t := 116) dX1_isSoundNow_68 (by decide) (q := 71) rfl (nI_ge (by omega) (by omega)) ?_
          refine j_ald_n o dX1_isSoundNow_71 rfl rfl (q := 72) rfl ?_
          refine j_ald o dX1_isSoundNow_72 rfl rfl (q := 74) rfl ?_
          refine j_ild o dX1_isSoundNow_74 rfl (q := 76) rfl ?_
          refine j_callV0 o (ctJ2_get hG _ (b2.mono (fun _ => jmr)) hpa) dX1_isSoundNow_76 q466 wdJ2_get mdJ2_get (jb hz6) (by rfl) (by rfl) rfl (Nat.le_of_ble_eq_true rfl) (Nat.le_of_ble_eq_true rfl) (by omega) (Nat.le_of_ble_eq_true rfl) (q := 79) rfl (fun v wd hpost => ?_)
          obtain ⟨rfl, rfl⟩ := hpost
          dsimp only [List.cons_append, List.nil_append, Option.toList]
          refine j_castS (r := (RX5, TX5, 2)) o dX1_isSoundNow_79 q657 (jb hpc) (ci := 5) rfl (q := 82) rfl ?_
          refine j_gf o dX1_isSoundNow_82 (jb hpc) kcX5 0 (Nat.le_of_ble_eq_true rfl) q208 rfl (q := 85) rfl ?_
          refine j_zald o dX1_isSoundNow_85 (jw 0 0 rfl rfl) hn9 (by omega) (q := 86) rfl ?_
          refine j_ifeqT o 91 dX1_isSoundNow_86 (by decide) (by unfold seen; rw [if_neg hno]; rfl) ?_
          refine j_ald_n o dX1_isSoundNow_91 rfl rfl (q := 92) rfl ?_
          refine j_ald o dX1_isSoundNow_92 rfl rfl (q := 94) rfl ?_
          refine j_ild o dX1_isSoundNow_94 rfl (q := 96) rfl ?_
          refine j_callV0 o (ctJ2_get hG _ (b2.mono (fun _ => jmr)) hpa) dX1_isSoundNow_96 q466 wdJ2_get mdJ2_get (jb hz6) (by rfl) (by rfl) rfl (Nat.le_of_ble_eq_true rfl) (Nat.le_of_ble_eq_true rfl) (by omega) (Nat.le_of_ble_eq_true rfl) (q := 99) rfl (fun v wd hpost => ?_)
          obtain ⟨rfl, rfl⟩ := hpost
          dsimp only [List.cons_append, List.nil_append, Option.toList]
          refine j_castS (r := (RX5, TX5, 2)) o dX1_isSoundNow_99 q657 (jb hpc) (ci := 5) rfl (q := 102) rfl ?_
          refine j_gf o dX1_isSoundNow_102 (jb hpc) kcX5 0 (Nat.le_of_ble_eq_true rfl) q208 rfl (q := 105) rfl ?_
          refine j_iconst o (nI 1) dX1_isSoundNow_105 (by decide) (q := 106) rfl ?_
          refine j_zast o dX1_isSoundNow_106 0 0 rfl rfl hn9 (by omega) rfl (q := 107) rfl ?_
          dsimp only [List.set]
          refine j_fnA (k9 := 0) (j := 0) (f2 := seen (usd ((fB (dF D)).take b) ++ (bAt (fB (dF D)) b).2.1.take (k + 1))) rfl rfl (fun j hj => ?_) ?_
          · rw [htk, ← List.append_assoc]
            exact seen_cons
          dsimp only [List.set]
          refine j_inc2 o (nI ((usd ((fB (dF D)).take b)).length + k + 1)) dX1_isSoundNow_107 (by first | exact nI_1 _ | exact pk_m1 _ | rfl) rfl (q := 110) rfl ?_
          refine j_inc6 o (nI (k + 1)) dX1_isSoundNow_110 (by first | exact nI_1 _ | exact pk_m1 _ | rfl) rfl (q := 113) rfl ?_
          refine j_goto o 61 dX1_isSoundNow_113 (by decide) ?_
          exact ih2 (k + 1) _ hu8 (by omega)
      have h0 := inner ps.length 0 _ rfl (by omega)
      rw [List.take_zero, List.append_nil] at h0
      exact h0
  have e0 : (fun _ => 0 : Nat → Int32) = seen (usd ((fB (dF D)).take 0)) := by
    funext i
    show (0 : Int32) = nI (if i ∈ usd [] then 1 else 0)
    rw [if_neg (by simp [usd])]
    rfl
  rw [e0]
  exact loop (fB (dF D)).length 0 _ _ _ (by omega) (by rw [List.drop_zero]; omega)
theorem ctX1_isSound {l : Launch} {g : jG} (hG : GS l g) (bg : va_W) {x : Nat} {D : Dk} (hD : rD g bg x D) (hI : InvD D) : KX1_isSound l g 9 (uSnd (dF D)) [.ref x] bg [] (fun y wd => y = some (.int (nI 1)) ∧ wd = []) := by
  obtain ⟨f, kk, lg, cl, io, mk, hf, hk9, ess, essk, xs, c0, c1, c2, mv, a1, -⟩ := id hD
  refine Ctr.of [some (.ref x)] hG (by decide +kernel) rfl (Nat.le_of_ble_eq_true rfl) (fun Y hl hN0 o r hIni => ?_)
  subst hl
  have hN : ∀ i, i < 1 → i < yN Y := fun i h => by rw [hN0]; exact h
  refine j_ald_n o dX1_isSound_0 rfl rfl (q := 1) rfl ?_
  refine j_callV0 o (ctX1_isSoundNow hG _ (hD.mono (fun _ => jmr)) hI) dX1_isSound_1 q636 wdX1_isSoundNow mdX1_isSoundNow (jb a1) (by rfl) (by rfl) rfl (Nat.le_of_ble_eq_true rfl) (Nat.le_of_ble_eq_true rfl) (by omega) (Nat.le_of_ble_eq_true rfl) (q := 4) rfl (fun v wd hpost => ?_)
  obtain ⟨rfl, rfl⟩ := hpost
  dsimp only [List.cons_append, List.nil_append, Option.toList]
  exact j_ret o r dX1_isSound_4 rfl [] _ rfl (⟨rfl, rfl⟩) (by omega)

/-! THE STORE, fourteenth: the copy of a file -/
set_option maxRecDepth 100000
def uCpS : List Bkt → Nat → Nat
  | [], _ => 0
  | b :: B, k => uCpB b.1.length b.2.1.length + uAdd k + uCpS B (k + 1)
def uCopy (B : List Bkt) : Nat := 22 + uCpS B 0
theorem zfit {P : Prop} [Decidable P] : Jvm.fits .boolean (.int (nI (if P then 1 else 0))) = true := by
  split <;> rfl
theorem ctX2_copy {l : Launch} {g : jG} (hG : GS l g) (bg : va_W) {q sz hs ch sd cap lo up s1 s2 lv pt : Nat} {B : List Bkt} {ess : List (List Nat)} (hR : stR g bg hs q (cap, lo, up, s1, s2) lv pt sz B ess) (hE : entB bg ess B) (hh : (hs, hsO ch sd) ∈ bg) (hI9 : Inv cap ch sd B) : KX2_copy l g 11 (uCopy B) [.ref q] bg [] (fun v wd => ∃ q2 ess2 w we, v = some (.ref q2) ∧ wd = [w, we] ∧ isSt g hs q2 (cap, lo, up, s1, s2) lv pt sz B ess2 w ∧ entB we ess2 B) := by
  have hf := hI9.1
  have f1 := hf.1
  have f2 := hf.2.1
  have f4 := hf.2.2.2.1
  have f5 := hf.2.2.2.2.1
  have hwf := hf.2.2.2.2.2.1
  obtain ⟨bl, tk, qs, r1, r2, r3, r4, r5, r6⟩ := hR
  obtain ⟨m1, b1, hz1, -⟩ := id r3
  have hU : uCopy B = 22 + uCpS B 0 := rfl
  refine Ctr.of [some (.ref q), none, none] hG (by decide +kernel) rfl (Nat.le_of_ble_eq_true rfl) (fun Y hl hN0 o r hI => ?_)
  subst hl
  have hN : ∀ i, i < 3 → i < yN Y := fun i h => by rw [hN0]; exact h
  refine j_new o (fs := fdX2) 1 dX2_copy_0 kcX2 q414 q113 q65 dfX2 (by omega) (by decide) (q := 3) rfl (fun q2 hb_q2 => ?_)
  refine j_dup o dX2_copy_3 rfl (q := 4) rfl ?_
  refine j_ald_n o dX2_copy_4 rfl rfl (q := 5) rfl ?_
  refine j_gf o dX2_copy_5 (jb r1) kcX2 0 (Nat.le_of_ble_eq_true rfl) q289 rfl (q := 8) rfl ?_
  refine j_callI1 o (ctX2_init hG _ (q := q2) (cap := cap)) dX2_copy_8 q415 wdX2_init mdX2_init rfl rfl (Nat.le_of_ble_eq_true rfl) (Nat.le_of_ble_eq_true rfl) (by omega) (Nat.le_of_ble_eq_true rfl) (q := 11) rfl (fun v wd hpost => ?_)
  obtain ⟨rfl, hs0, w0, rfl, hS0⟩ := hpost
  dsimp only [List.cons_append, List.nil_append, Option.toList]
  have hS0 : isSt g hs0 q2 (cap, 40, 80, 0, 0) (lvl bgn.length) (ptr bgn.length) (rws bgn) bgn [[], []] w0 := hS0
  obtain ⟨bl2, tk2, qs2, wbl, wsb, hperm, hA, hBk⟩ := hS0
  have hperm2 : w0.Perm (jflat [[(q2, stO (cap, 40, 80, 0, 0) (lvl bgn.length) (ptr bgn.length) (rws bgn) hs0 bl2 tk2)], [(tk2, tkO g (usd bgn))], wbl, wsb.flatten]) := (by letI : DecidableEq (Nat × va_E) := fun _ _ => Classical.propDecidable _; exact List.perm_iff_count.mpr (fun a_ => by have e0_ := List.Perm.count_eq (hperm) a_; simp only [List.flatten_cons, List.flatten_nil, jflat, List.cons_append, List.nil_append, List.count_append, List.count_cons, List.append_nil, List.count_nil, List.flatten_append, bkO, pgO, stO, eO, tkO, eA] at e0_ ⊢; omega))
  refine j_spP _ (hperm2) ?_
  dsimp only [List.cons_append, List.nil_append]
  obtain ⟨m3, b3, hA3⟩ := id hA
  obtain ⟨t3, rfl, -⟩ := hA3.head
  refine j_ast1 o dX2_copy_11 rfl rfl (hN 1 (Nat.le_of_ble_eq_true rfl)) (q := 12) rfl ?_
  refine j_ald_n o dX2_copy_12 rfl rfl (q := 13) rfl ?_
  refine j_gf o dX2_copy_13 (jw 0 0 rfl rfl) kcX2 9 (Nat.le_of_ble_eq_true rfl) q309 rfl (q := 16) rfl ?_
  refine j_mv2 ?_
  refine j_callV1 o (ctJ2_clear hG _ hA) dX2_copy_16 q166 wdJ2_clear mdJ2_clear (jw 0 0 rfl rfl) (by rfl) (by rfl) rfl (Nat.le_of_ble_eq_true rfl) (Nat.le_of_ble_eq_true rfl) (by omega) (Nat.le_of_ble_eq_true rfl) (q := 19) rfl (fun v wd hpost => ?_)
  obtain ⟨rfl, wbl2, rfl, hA2⟩ := hpost
  dsimp only [List.cons_append, List.nil_append, Option.toList]
  refine j_ald_n o dX2_copy_19 rfl rfl (q := 20) rfl ?_
  refine j_ald_n o dX2_copy_20 rfl rfl (q := 21) rfl ?_
  refine j_gf o dX2_copy_21 (jb r1) kcX2 1 (Nat.le_of_ble_eq_true rfl) q291 rfl (q := 24) rfl ?_
  refine j_pf o dX2_copy_24 1 0 rfl rfl kcX2 1 (Nat.le_of_ble_eq_true rfl) q291 rfl rfl rfl (Nat.le_of_ble_eq_true rfl) (q := 27) rfl ?_
  dsimp only [List.set]
  refine j_ald_n o dX2_copy_27 rfl rfl (q := 28) rfl ?_
  refine j_ald_n o dX2_copy_28 rfl rfl (q := 29) rfl ?_
  refine j_gf o dX2_copy_29 (jb r1) kcX2 2 (Nat.le_of_ble_eq_true rfl) q294 rfl (q := 32) rfl ?_
  refine j_pf o dX2_copy_32 1 0 rfl rfl kcX2 2 (Nat.le_of_ble_eq_true rfl) q294 rfl rfl rfl (Nat.le_of_ble_eq_true rfl) (q := 35) rfl ?_
  dsimp only [List.set]
  refine j_ald_n o dX2_copy_35 rfl rfl (q := 36) rfl ?_
  refine j_ald_n o dX2_copy_36 rfl rfl (q := 37) rfl ?_
  refine j_gf o dX2_copy_37 (jb r1) kcX2 3 (Nat.le_of_ble_eq_true rfl) q297 rfl (q := 40) rfl ?_
  refine j_pf o dX2_copy_40 1 0 rfl rfl kcX2 3 (Nat.le_of_ble_eq_true rfl) q297 rfl rfl rfl (Nat.le_of_ble_eq_true rfl) (q := 43) rfl ?_
  dsimp only [List.set]
  refine j_ald_n o dX2_copy_43 rfl rfl (q := 44) rfl ?_
  refine j_ald_n o dX2_copy_44 rfl rfl (q := 45) rfl ?_
  refine j_gf o dX2_copy_45 (jb r1) kcX2 4 (Nat.le_of_ble_eq_true rfl) q299 rfl (q := 48) rfl ?_
  refine j_pf o dX2_copy_48 1 0 rfl rfl kcX2 4 (Nat.le_of_ble_eq_true rfl) q299 rfl rfl rfl (Nat.le_of_ble_eq_true rfl) (q := 51) rfl ?_
  dsimp only [List.set]
  refine j_ald_n o dX2_copy_51 rfl rfl (q := 52) rfl ?_
  refine j_ald_n o dX2_copy_52 rfl rfl (q := 53) rfl ?_
  refine j_gf o dX2_copy_53 (jb r1) kcX2 5 (Nat.le_of_ble_eq_true rfl) q301 rfl (q := 56) rfl ?_
  refine j_pf o dX2_copy_56 1 0 rfl rfl kcX2 5 (Nat.le_of_ble_eq_true rfl) q301 rfl rfl rfl (Nat.le_of_ble_eq_true rfl) (q := 59) rfl ?_
  dsimp only [List.set]
  refine j_ald_n o dX2_copy_59 rfl rfl (q := 60) rfl ?_
  refine j_ald_n o dX2_copy_60 rfl rfl (q := 61) rfl ?_
  refine j_gf o dX2_copy_61 (jb r1) kcX2 6 (Nat.le_of_ble_eq_true rfl) q303 rfl (q := 64) rfl ?_
  refine j_pf o dX2_copy_64 1 0 rfl rfl kcX2 6 (Nat.le_of_ble_eq_true rfl) q303 rfl rfl rfl (Nat.le_of_ble_eq_true rfl) (q := 67) rfl ?_
  dsimp only [List.set]
  refine j_ald_n o dX2_copy_67 rfl rfl (q := 68) rfl ?_
  refine j_ald_n o dX2_copy_68 rfl rfl (q := 69) rfl ?_
  refine j_gf o dX2_copy_69 (jb r1) kcX2 7 (Nat.le_of_ble_eq_true rfl) q305 rfl (q := 72) rfl ?_
  refine j_pf o dX2_copy_72 1 0 rfl rfl kcX2 7 (Nat.le_of_ble_eq_true rfl) q305 rfl rfl rfl (Nat.le_of_ble_eq_true rfl) (q := 75) rfl ?_
  dsimp only [List.set]
  refine j_ald_n o dX2_copy_75 rfl rfl (q := 76) rfl ?_
  refine j_ald_n o dX2_copy_76 rfl rfl (q := 77) rfl ?_
  refine j_gf o dX2_copy_77 (jb r1) kcX2 8 (Nat.le_of_ble_eq_true rfl) q307 rfl (q := 80) rfl ?_
  refine j_pf o dX2_copy_80 1 0 rfl rfl kcX2 8 (Nat.le_of_ble_eq_true rfl) q307 rfl rfl rfl (Nat.le_of_ble_eq_true rfl) (q := 83) rfl ?_
  dsimp only [List.set]
  refine j_ald_n o dX2_copy_83 rfl rfl (q := 84) rfl ?_
  refine j_gf o dX2_copy_84 (jb r1) kcX2 10 (Nat.le_of_ble_eq_true rfl) q311 rfl (q := 87) rfl ?_
  refine j_iconst o (nI 0) dX2_copy_87 (by decide) (q := 88) rfl ?_
  refine j_ald_n o dX2_copy_88 rfl rfl (q := 89) rfl ?_
  refine j_gf o dX2_copy_89 (jw 1 0 rfl rfl) kcX2 10 (Nat.le_of_ble_eq_true rfl) q311 rfl (q := 92) rfl ?_
  refine j_iconst o (nI 0) dX2_copy_92 (by decide) (q := 93) rfl ?_
  refine j_bipush o (nI 96) dX2_copy_93 (by decide) (q := 95) rfl ?_
  refine j_copyA o (Nat.le_of_ble_eq_true rfl) 1 rfl rfl dX2_copy_95 q416 2 0 rfl rfl (jb r2) (fun i hi => zfit) (by omega) (by omega) (by omega) (by omega) (Nat.le_of_ble_eq_true rfl) (q := 98) rfl ?_
  dsimp only [List.set]
  refine j_fnA (k9 := 2) (j := 0) (f2 := fun k => nI (if k ∈ usd B then 1 else 0)) rfl rfl (fun i hi => ?_) ?_
  · show (if 0 ≤ i ∧ i < 0 + 96 then _ else _) = _
    rw [if_pos ⟨Nat.zero_le _, by omega⟩, Nat.zero_add, Nat.sub_zero]
  dsimp only [List.set]
  refine j_mv3 ?_
  refine j_drop ?_
  refine j_mv3 ?_
  refine j_drop ?_
  refine j_iconst o (nI 0) dX2_copy_98 (by decide) (q := 99) rfl ?_
  refine j_ist2 o dX2_copy_99 rfl (hN 2 (Nat.le_of_ble_eq_true rfl)) (q := 100) rfl ?_
  have loop : ∀ (d k : Nat) (wbl3 W we : va_W) (qs3 : List Nat) (ess3 : List (List Nat)) (wsb3 : List va_W) (u9 : Nat), k + d = B.length → AL g bl2 qs3 wbl3 → isBks g cap qs3 (B.take k) ess3 wsb3 → W.Perm wsb3.flatten → entB we ess3 (B.take k) → u9 + uCpS (B.drop k) k ≤ uCopy B → J g Y [wbl3, [(q2, stO (cap, lo, up, s1, s2) lv pt sz hs bl2 tk2)], [(tk2, tkO g (usd B))], W, we] u9 100 [some (.ref q), some (.ref q2), some (.int (nI k))] [] := by
    intro d
    induction d with
    | zero =>
      intro k wbl3 W we qs3 ess3 wsb3 u9 d1 d2 d3 d4 d5 d6
      rw [List.take_of_length_le (by omega)] at d3 d5
      refine j_ild_n o dX2_copy_100 rfl (q := 101) rfl ?_
      refine j_ald_n o dX2_copy_101 rfl rfl (q := 102) rfl ?_
      refine j_gf o dX2_copy_102 (jb r1) kcX2 9 (Nat.le_of_ble_eq_true rfl) q309 rfl (q := 105) rfl ?_
      refine j_callV0 o (ctJ2_size hG _ (jmr hz1)) dX2_copy_105 q417 wdJ2_size mdJ2_size (jb hz1) (by rfl) (by rfl) rfl (Nat.le_of_ble_eq_true rfl) (Nat.le_of_ble_eq_true rfl) (by omega) (Nat.le_of_ble_eq_true rfl) (q := 108) rfl (fun v wd hpost => ?_)
      obtain ⟨rfl, rfl⟩ := hpost
      dsimp only [List.cons_append, List.nil_append, Option.toList]
      refine j_icgeT o 139 dX2_copy_108 (by decide) (nI_le (by omega) (by omega)) ?_
      refine j_ald_n o dX2_copy_139 rfl rfl (q := 140) rfl ?_
      refine j_mgN [_, _, _, _] (fun w9 hw9 => ?_)
      first | dsimp only [List.cons_append, List.nil_append] | skip
      exact j_aret o r dX2_copy_140 (by first | exact Or.inl ⟨_, rfl⟩ | exact Or.inr ⟨_, rfl⟩) rfl [_, _] _ rfl (⟨q2, ess3, w9, we, rfl, rfl, ⟨bl2, tk2, qs3, wbl3, wsb3, (by letI : DecidableEq (Nat × va_E) := fun _ _ => Classical.propDecidable _; exact List.perm_iff_count.mpr (fun a_ => by have e0_ := List.Perm.count_eq (hw9) a_; have e1_ := List.Perm.count_eq (d4) a_; simp only [List.flatten_cons, List.flatten_nil, jflat, List.cons_append, List.nil_append, List.count_append, List.count_cons, List.append_nil, List.count_nil, List.flatten_append, bkO, pgO, stO, eO, tkO, eA] at e0_ e1_ ⊢; omega)), d2, d3⟩, d5⟩) (by omega)
    | succ d ih =>
      intro k wbl3 W we qs3 ess3 wsb3 u9 d1 d2 d3 d4 d5 d6
      obtain ⟨qb, hqb⟩ := get_ex (xs := qs) (i := k) (by omega)
      obtain ⟨es, hes⟩ := get_ex (xs := ess) (i := k) (by omega)
      have hB := bAt_ex (B := B) (i := k) (by omega)
      have hbR := r6 k qb _ es hqb hB hes
      have hER := hE.2 k es _ hes hB
      obtain ⟨k1, k2, k3, k4, k5⟩ := hwf.at (i := k) (by omega)
      have hm10 := hf.m16 (i := k) (by omega)
      have hrk := rws_at (B := B) (i := k) (by omega)
      have hER1 := hER.1
      have k3b : ((bAt B k).2.1.length - 1) * cap ≤ es.length := (by
        rcases k3 with h | h
        · rw [h]; simp
        · omega)
      have hd : B.drop k = bAt B k :: B.drop (k + 1) := (by rw [List.drop_eq_getElem_cons (by omega)]; congr 1; rw [List.getElem?_eq_getElem (by omega)] at hB; exact Option.some.inj hB)
      have htk : B.take (k + 1) = B.take k ++ [bAt B k] := by rw [List.take_add_one, hB]; rfl
      have hq3 : qs3.length = k := (by rw [d3.1, List.length_take]; omega)
      rw [hd] at d6
      have d6 : u9 + (uCpB (bAt B k).1.length (bAt B k).2.1.length + uAdd k + uCpS (B.drop (k + 1)) (k + 1)) ≤ uCopy B := d6
      rw [← hER1] at d6
      obtain ⟨cb, ps, c1, c2, c3⟩ := id hbR
      obtain ⟨m5, a5, d29⟩ := id d2
      obtain ⟨t5, rfl, -⟩ := d29.head
      refine j_ild_n o dX2_copy_100 rfl (q := 101) rfl ?_
      refine j_ald_n o dX2_copy_101 rfl rfl (q := 102) rfl ?_
      refine j_gf o dX2_copy_102 (jb r1) kcX2 9 (Nat.le_of_ble_eq_true rfl) q309 rfl (q := 105) rfl ?_
      refine j_callV0 o (ctJ2_size hG _ (jmr hz1)) dX2_copy_105 q417 wdJ2_size mdJ2_size (jb hz1) (by rfl) (by rfl) rfl (Nat.le_of_ble_eq_true rfl) (Nat.le_of_ble_eq_true rfl) (by omega) (Nat.le_of_ble_eq_true rfl) (q := 108) rfl (fun v wd hpost => ?_)
      obtain ⟨rfl, rfl⟩ := hpost
      dsimp only [List.cons_append, List.nil_append, Option.toList]
      refine j_icgeF o (t := 139) dX2_copy_108 (by decide) (q := 111) rfl (nI_ge (by omega) (by omega)) ?_
      refine j_ald_n o dX2_copy_111 rfl rfl (q := 112) rfl ?_
      refine j_gf o dX2_copy_112 (jw 1 0 rfl rfl) kcX2 9 (Nat.le_of_ble_eq_true rfl) q309 rfl (q := 115) rfl ?_
      refine j_ald_n o dX2_copy_115 rfl rfl (q := 116) rfl ?_
      refine j_gf o dX2_copy_116 (jb r1) kcX2 9 (Nat.le_of_ble_eq_true rfl) q309 rfl (q := 119) rfl ?_
      refine j_ild_n o dX2_copy_119 rfl (q := 120) rfl ?_
      refine j_callV0 o (ctJ2_get hG _ (r3.mono (fun _ => jmr)) hqb) dX2_copy_120 q418 wdJ2_get mdJ2_get (jb hz1) (by rfl) (by rfl) rfl (Nat.le_of_ble_eq_true rfl) (Nat.le_of_ble_eq_true rfl) (by omega) (Nat.le_of_ble_eq_true rfl) (q := 123) rfl (fun v wd hpost => ?_)
      obtain ⟨rfl, rfl⟩ := hpost
      dsimp only [List.cons_append, List.nil_append, Option.toList]
      refine j_castS (r := (RX4, TX4, 2)) o dX2_copy_123 q174 (jb c1) (ci := 4) rfl (q := 126) rfl ?_
      refine j_callS0 o (ctX2_copyOf hG _ (hbR.mono (fun _ => jmr)) (hER.mono (fun _ => jmr)) k1 (show es.length ≤ _ * cap by omega) k3b hm10 (by omega) ⟨f1, f2⟩) dX2_copy_126 q432 wdX2_copyOf mdX2_copyOf rfl (Nat.le_of_ble_eq_true rfl) (Nat.le_of_ble_eq_true rfl) (by omega) (Nat.le_of_ble_eq_true rfl) (q := 129) rfl (fun v wd hpost => ?_)
      obtain ⟨qn, esn, wb, wek, rfl, rfl, hBn, hEn⟩ := hpost
      dsimp only [List.cons_append, List.nil_append, Option.toList]
      refine j_mv2 ?_
      obtain ⟨cn, pn, hcn, -⟩ := hBn.r (S := wb) (fun _ h => h)
      refine j_callV1 o (ctJ2_add hG _ d2 (fun y hy => by obtain ⟨c6, fl6, h6⟩ := d3.el hy; exact Or.inl ⟨_, jwl 4 rfl (d4.mem_iff.mpr h6), trivial⟩) (Or.inl ⟨_, jwl 0 rfl hcn, trivial⟩) (by omega)) dX2_copy_129 q218 wdJ2_add mdJ2_add (jw 0 0 rfl rfl) (by rfl) (by rfl) rfl (Nat.le_of_ble_eq_true rfl) (Nat.le_of_ble_eq_true rfl) (by rw [hq3]; omega) (Nat.le_of_ble_eq_true rfl) (q := 132) rfl (fun v wd hpost => ?_)
      obtain ⟨rfl, wbl4, rfl, d7⟩ := hpost
      dsimp only [List.cons_append, List.nil_append, Option.toList]
      rw [hq3]
      refine j_pop o dX2_copy_132 rfl (q := 133) rfl ?_
      refine j_inc2 o (nI (k + 1)) dX2_copy_133 (by first | exact nI_1 _ | exact pk_m1 _ | rfl) rfl (q := 136) rfl ?_
      refine j_goto o 100 dX2_copy_136 (by decide) ?_
      refine j_mv5 ?_
      refine j_mv2 ?_
      refine j_mgN [_, _] (fun W2 hW2 => ?_)
      first | dsimp only [List.cons_append, List.nil_append] | skip
      refine j_mv5 ?_
      refine j_mv3 ?_
      refine j_mgN [_, _] (fun we2 hwe2 => ?_)
      first | dsimp only [List.cons_append, List.nil_append] | skip
      refine j_mv1 ?_
      refine j_mv4 ?_
      refine j_mv4 ?_
      refine j_mv4 ?_
      refine ih (k + 1) wbl4 W2 we2 (qs3 ++ [qn]) (ess3 ++ [esn]) (wsb3 ++ [wb]) _ (by omega) d7 ?_ (by letI : DecidableEq (Nat × va_E) := fun _ _ => Classical.propDecidable _; exact List.perm_iff_count.mpr (fun a_ => by have e0_ := List.Perm.count_eq (hW2) a_; have e1_ := List.Perm.count_eq (d4) a_; simp only [List.flatten_cons, List.flatten_nil, jflat, List.cons_append, List.nil_append, List.count_append, List.count_cons, List.append_nil, List.count_nil, List.flatten_append, bkO, pgO, stO, eO, tkO, eA] at e0_ e1_ ⊢; omega)) ?_ (by omega)
      · rw [htk]
        exact isBks_push d3 hBn
      · rw [htk]
        exact entB_push (d5.mono (fun c hc => hwe2.mem_iff.mpr (by simp [jflat, hc]))) (hEn.mono (fun c hc => hwe2.mem_iff.mpr (by simp [jflat, hc])))
  refine j_pm [wbl2, [(q2, stO (cap, lo, up, s1, s2) lv pt sz hs bl2 tk2)], [(tk2, tkO g (usd B))], [], []] (by simp) ?_
  exact loop B.length 0 wbl2 [] [] [] [] [] _ (by omega) hA2 ⟨rfl, rfl, rfl, fun i a b c d h => by simp at h⟩ (by simp) ⟨rfl, fun i a b h => by simp at h⟩ (by rw [List.drop_zero]; omega)

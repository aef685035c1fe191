/-! TEXTS, third: appending, toString, equals -/
set_option maxRecDepth 100000
theorem uCc_le {n m : Nat} (h : n ≤ m) : uCc n ≤ uCc m := by
  unfold uCc
  by_cases a1 : m ≤ 16
  · rw [if_pos a1, if_pos (by omega)]; omega
  rw [if_neg a1]
  by_cases a2 : m ≤ 34
  · rw [if_pos a2]; split
    · omega
    · rw [if_pos (by omega)]; omega
  rw [if_neg a2]
  by_cases a3 : m ≤ 70
  · rw [if_pos a3]; split
    · omega
    · split
      · omega
      · rw [if_pos (by omega)]; omega
  rw [if_neg a3]
  by_cases a4 : m ≤ 142
  · rw [if_pos a4]; split
    · omega
    · split
      · omega
      · split
        · omega
        · rw [if_pos (by omega)]; omega
  rw [if_neg a4]
  repeat (first | omega | split)
section JVW
variable {g : jG} {Y : jY} {bg : va_W} {own : String} {cc : ByteArray} {lev U : Nat} {u uc pc q : Nat} {L : List (Option Value)} {st : List Value}
theorem j_callVcW (o : jOk g Y bg own cc lev U) {y : MethodName} {idx maxL lv : Nat} {bytes : ByteArray} {ret : Option FieldType} {As : List Value} {w0 : va_W} {wr : List va_W} {post : Option Value → List va_W → Prop} {rest stk : List Value} {b : Nat} (hct : Ctr (yL Y) g y bytes maxL ret lv uc (.ref b :: As) (wr.flatten ++ bg) [w0] post) (hd : decode cc pc = .ok (.invokevirtual idx, 3)) (hl : Cond.methodLink own idx y ∈ lw_all) (hW : jVW y bytes maxL ret) (hmd : jMd y As.length) (hm : jRC g Y (w0 :: wr) y.cls b) (hstk : stk = As.reverse ++ .ref b :: rest) (hlv : lv + 1 ≤ lev) (hml : maxL ≤ 45) (hu : u + uc ≤ U) (hst : (rest.map fun v => v.category).sum ≤ 8) (e : pc + 3 = q) (k : ∀ v wd, post v wd → J g Y (wd ++ wr) (u + uc) q L (v.toList ++ rest)) : J g Y (w0 :: wr) u pc L stk := j_callC (wc := [w0]) o hct hd hl hW.1 (o.wd _ hW.2.1) hW.2.2.1 hW.2.2.2 hmd hm hstk hlv hml hu hst e k
end JVW
theorem ctJ20_inflateIfNeededFor {l : Launch} {g : jG} (hG : GS l g) (bg : va_W) {q v n i : Nat} {ml : Int32} (hq : (q, sbO v ml n) ∈ bg) (hi : i < 4) : KJ20_inflateIfNeededFor l g 2 0 [.ref q, .ref (jad g (300 + i))] bg [] (fun v wd => v = none ∧ wd = []) := by
  refine Ctr.of [some (.ref q), some (.ref (jad g (300 + i)))] hG (by decide +kernel) rfl (Nat.le_of_ble_eq_true rfl) (fun Y hl hN0 o r hIni => ?_)
  subst hl
  have hN : ∀ i, i < 2 → i < yN Y := fun i h => by rw [hN0]; exact h
  refine j_gs o dJ20_inflateIfNeededFor_0 o.kf.2.2.2.2.2.2.2.2.2.2.2.2.1 q719 (q := 3) rfl ?_
  refine j_ifeqF o (t := 21) dJ20_inflateIfNeededFor_3 (by decide) (q := 6) rfl (by decide) ?_
  refine j_ald_n o dJ20_inflateIfNeededFor_6 rfl rfl (q := 7) rfl ?_
  refine j_gf o dJ20_inflateIfNeededFor_7 (jb hq) kcJ21 1 (Nat.le_of_ble_eq_true rfl) q729 rfl (q := 10) rfl ?_
  refine j_ald_n o dJ20_inflateIfNeededFor_10 rfl rfl (q := 11) rfl ?_
  refine j_callVc o (ctJ9_coderK hG _ hi) dJ20_inflateIfNeededFor_11 q823 wdJ9_coder mdJ9_coder (jRC.str o hi) rfl (Nat.le_of_ble_eq_true rfl) (Nat.le_of_ble_eq_true rfl) (by omega) (Nat.le_of_ble_eq_true rfl) (q := 14) rfl (fun v wd hpost => ?_)
  obtain ⟨rfl, rfl⟩ := hpost
  dsimp only [List.cons_append, List.nil_append, Option.toList]
  refine j_iceqT o 21 dJ20_inflateIfNeededFor_14 (by decide) rfl ?_
  exact j_vret o r dJ20_inflateIfNeededFor_21 [] _ rfl (⟨rfl, rfl⟩) (by omega)
theorem ctJ20_putStringAt {l : Launch} {g : jG} (hG : GS l g) (bg : va_W) {q v n i m cap : Nat} {ml : Int32} {f : Nat → Int32} (hi : i < 4) (hc : m + (ksT i).length ≤ cap) (h9 : cap < 2 ^ 20) (hf : fitB cap f) : KJ20_putStringAt l g 3 0 [.ref q, .int (nI m), .ref (jad g (300 + i))] bg [[(q, sbO v ml n)], [(v, eA g 2 cap f)]] (fun y wd => y = none ∧ ∃ f2, wd = [[(q, sbO v ml n)], [(v, eA g 2 cap f2)]] ∧ (∀ j x, (ksT i)[j]? = some x → f2 (m + j) = nI x) ∧ (∀ j, j < m → f2 j = f j) ∧ fitB cap f2) := by
  refine Ctr.of [some (.ref q), some (.int (nI m)), some (.ref (jad g (300 + i)))] hG (by decide +kernel) rfl (Nat.le_of_ble_eq_true rfl) (fun Y hl hN0 o r hIni => ?_)
  subst hl
  have hN : ∀ i, i < 3 → i < yN Y := fun i h => by rw [hN0]; exact h
  refine j_ald_n o dJ20_putStringAt_0 rfl rfl (q := 1) rfl ?_
  refine j_ald_n o dJ20_putStringAt_1 rfl rfl (q := 2) rfl ?_
  refine j_callC0 o (C := "java/lang/StringBuilder") (ctJ20_inflateIfNeededFor hG _ (jwl 0 rfl (List.mem_singleton.mpr rfl)) hi) dJ20_putStringAt_2 q819 q821 (o.selp ⟨by decide, by decide⟩ q778 rfl q820 q821) q101 q822 mdJ20_inflateIfNeededFor (jRC.m o (jw 0 0 rfl rfl) (ci := 19) rfl) rfl (Nat.le_of_ble_eq_true rfl) (Nat.le_of_ble_eq_true rfl) (by omega) (Nat.le_of_ble_eq_true rfl) (q := 5) rfl (fun v wd hpost => ?_)
  obtain ⟨rfl, rfl⟩ := hpost
  dsimp only [List.cons_append, List.nil_append, Option.toList]
  refine j_ald_n o dJ20_putStringAt_5 rfl rfl (q := 6) rfl ?_
  refine j_ald_n o dJ20_putStringAt_6 rfl rfl (q := 7) rfl ?_
  refine j_gf o dJ20_putStringAt_7 (jw 0 0 rfl rfl) kcJ21 0 (Nat.le_of_ble_eq_true rfl) q728 rfl (q := 10) rfl ?_
  refine j_ild_n o dJ20_putStringAt_10 rfl (q := 11) rfl ?_
  refine j_ald_n o dJ20_putStringAt_11 rfl rfl (q := 12) rfl ?_
  refine j_gf o dJ20_putStringAt_12 (jw 0 0 rfl rfl) kcJ21 1 (Nat.le_of_ble_eq_true rfl) q729 rfl (q := 15) rfl ?_
  refine j_mv1 ?_
  refine j_callVcW o (ctJ9_getBytes hG _ hi hc h9 hf) dJ20_putStringAt_15 q843 wdJ9_getBytes mdJ9_getBytes (jRC.str o hi) rfl (Nat.le_of_ble_eq_true rfl) (Nat.le_of_ble_eq_true rfl) (by omega) (Nat.le_of_ble_eq_true rfl) (q := 18) rfl (fun v wd hpost => ?_)
  obtain ⟨rfl, f2, rfl, g1, g2, g3⟩ := hpost
  dsimp only [List.cons_append, List.nil_append, Option.toList]
  refine j_mv1 ?_
  exact j_vret o r dJ20_putStringAt_18 [_, _] _ rfl (⟨rfl, f2, rfl, g1, g2, g3⟩) (by omega)
theorem snocT {t s : List Nat} {f f2 : Nat → Int32} (h1 : ∀ i x, t[i]? = some x → f i = nI x) (h2 : ∀ j x, s[j]? = some x → f2 (t.length + j) = nI x) (h3 : ∀ j, j < t.length → f2 j = f j) : ∀ i x, (t ++ s)[i]? = some x → f2 i = nI x := by
  intro i x h
  rcases Nat.lt_or_ge i t.length with h4 | h4
  · rw [List.getElem?_append_left h4] at h
    rw [h3 i h4]
    exact h1 i x h
  · rw [List.getElem?_append_right h4] at h
    have := h2 _ x h
    rwa [show t.length + (i - t.length) = i by omega] at this
theorem ctJ20_append {l : Launch} {g : jG} (hG : GS l g) (bg : va_W) {q i : Nat} {t : List Nat} {w : va_W} (hi : i < 4) (hw : sbW g q t w) (h9 : t.length + (ksT i).length ≤ 574) : KJ20_append l g 5 (uCc (t.length + (ksT i).length) - uCc t.length) [.ref q, .ref (jad g (300 + i))] bg [w] (fun y wd => y = some (.ref q) ∧ ∃ w2, wd = [w2] ∧ sbW g q (t ++ ksT i) w2) := by
  obtain ⟨v, f, ml, rfl, h1, h2⟩ := hw
  have hl1 := ksT_l1 i
  obtain ⟨c1, c2, c3⟩ := cpc_le (n := t.length + (ksT i).length) h9
  refine Ctr.of [some (.ref q), some (.ref (jad g (300 + i))), none] hG (by decide +kernel) rfl (Nat.le_of_ble_eq_true rfl) (fun Y hl hN0 o r hIni => ?_)
  subst hl
  have hN : ∀ i, i < 3 → i < yN Y := fun i h => by rw [hN0]; exact h
  refine j_ald_n o dJ20_append_0 rfl rfl (q := 1) rfl ?_
  refine j_ifnn o 9 dJ20_append_1 (by decide) ?_
  refine j_ald_n o dJ20_append_9 rfl rfl (q := 10) rfl ?_
  refine j_callVc o (ctJ9_lengthK hG _ hi) dJ20_append_10 q806 wdJ9_length mdJ9_length (jRC.str o hi) rfl (Nat.le_of_ble_eq_true rfl) (Nat.le_of_ble_eq_true rfl) (by omega) (Nat.le_of_ble_eq_true rfl) (q := 13) rfl (fun v wd hpost => ?_)
  obtain ⟨rfl, rfl⟩ := hpost
  dsimp only [List.cons_append, List.nil_append, Option.toList]
  refine j_ist2 o dJ20_append_13 rfl (hN 2 (Nat.le_of_ble_eq_true rfl)) (q := 14) rfl ?_
  refine j_ald_n o dJ20_append_14 rfl rfl (q := 15) rfl ?_
  refine j_ald_n o dJ20_append_15 rfl rfl (q := 16) rfl ?_
  refine j_gf o dJ20_append_16 (jw 0 0 rfl rfl) kcJ21 3 (Nat.le_of_ble_eq_true rfl) q731 rfl (q := 19) rfl ?_
  refine j_ild_n o dJ20_append_19 rfl (q := 20) rfl ?_
  refine j_iadd o dJ20_append_20 (q := 21) rfl ?_
  refine j_topi o (nI (t.length + (ksT i).length)) (nI_add _ _) ?_
  refine j_sp [[(q, _)], [(v, _)]] rfl ?_
  dsimp only [List.cons_append, List.nil_append]
  refine j_callC2 o (C := "java/lang/StringBuilder") (ctJ20_ensure hG _ h2 (by omega) (by omega) h9) dJ20_append_21 q755 q757 (o.selp ⟨by decide, by decide⟩ q778 rfl q756 q757) q101 q758 mdJ20_ensureCapacityInternal (jRC.m o (jw 0 0 rfl rfl) (ci := 19) rfl) rfl (Nat.le_of_ble_eq_true rfl) (Nat.le_of_ble_eq_true rfl) (by omega) (Nat.le_of_ble_eq_true rfl) (q := 24) rfl (fun v wd hpost => ?_)
  obtain ⟨rfl, v2, f2, rfl, g1, g2⟩ := hpost
  dsimp only [List.cons_append, List.nil_append, Option.toList]
  refine j_ald_n o dJ20_append_24 rfl rfl (q := 25) rfl ?_
  refine j_ald_n o dJ20_append_25 rfl rfl (q := 26) rfl ?_
  refine j_gf o dJ20_append_26 (jw 0 0 rfl rfl) kcJ21 3 (Nat.le_of_ble_eq_true rfl) q731 rfl (q := 29) rfl ?_
  refine j_ald_n o dJ20_append_29 rfl rfl (q := 30) rfl ?_
  refine j_callC2 o (C := "java/lang/StringBuilder") (ctJ20_putStringAt hG _ hi c1 (by omega) g2) dJ20_append_30 q815 q817 (o.selp ⟨by decide, by decide⟩ q778 rfl q816 q817) q101 q818 mdJ20_putStringAt (jRC.m o (jw 0 0 rfl rfl) (ci := 19) rfl) rfl (Nat.le_of_ble_eq_true rfl) (Nat.le_of_ble_eq_true rfl) (by omega) (Nat.le_of_ble_eq_true rfl) (q := 33) rfl (fun v wd hpost => ?_)
  obtain ⟨rfl, f3, rfl, g3, g4, g5⟩ := hpost
  dsimp only [List.cons_append, List.nil_append, Option.toList]
  refine j_ald_n o dJ20_append_33 rfl rfl (q := 34) rfl ?_
  refine j_dup o dJ20_append_34 rfl (q := 35) rfl ?_
  refine j_gf o dJ20_append_35 (jw 0 0 rfl rfl) kcJ21 3 (Nat.le_of_ble_eq_true rfl) q731 rfl (q := 38) rfl ?_
  refine j_ild_n o dJ20_append_38 rfl (q := 39) rfl ?_
  refine j_iadd o dJ20_append_39 (q := 40) rfl ?_
  refine j_topi o (nI (t ++ ksT i).length) ((by rw [List.length_append]; exact nI_add _ _)) ?_
  refine j_pf o dJ20_append_40 0 0 rfl rfl kcJ21 3 (Nat.le_of_ble_eq_true rfl) q731 rfl rfl rfl (Nat.le_of_ble_eq_true rfl) (q := 43) rfl ?_
  dsimp only [List.set]
  refine j_ald_n o dJ20_append_43 rfl rfl (q := 44) rfl ?_
  refine j_mg [[(q, _)], [(v2, _)]] _ rfl ?_
  dsimp only [jflat, List.cons_append, List.nil_append]
  exact j_aret o r dJ20_append_44 (by first | exact Or.inl ⟨_, rfl⟩ | exact Or.inr ⟨_, rfl⟩) rfl [_] _ rfl (⟨rfl, _, rfl, v2, f3, ml, by rw [List.length_append], snocT h1 g3 (fun j hj => by rw [g4 j hj, g1 j hj]), by rw [List.length_append]; exact g5⟩) (by omega)
theorem ctJ20_append_2 {l : Launch} {g : jG} (hG : GS l g) (bg : va_W) {q k : Nat} {t : List Nat} {w : va_W} (hk : k < 10000) (hw : sbW g q t w) (h9 : t.length + (digs k).length ≤ 574) : KJ20_append_2 l g 5 (uCc (t.length + (digs k).length) - uCc t.length) [.ref q, .int (nI k)] bg [w] (fun y wd => y = some (.ref q) ∧ ∃ w2, wd = [w2] ∧ sbW g q (t ++ digs k) w2) := by
  obtain ⟨v, f, ml, rfl, h1, h2⟩ := hw
  have hl1 := digs_ge (k := k)
  obtain ⟨c1, c2, c3⟩ := cpc_le (n := t.length + (digs k).length) h9
  refine Ctr.of [some (.ref q), some (.int (nI k)), none, none] hG (by decide +kernel) rfl (Nat.le_of_ble_eq_true rfl) (fun Y hl hN0 o r hIni => ?_)
  subst hl
  have hN : ∀ i, i < 4 → i < yN Y := fun i h => by rw [hN0]; exact h
  refine j_ald_n o dJ20_append_2_0 rfl rfl (q := 1) rfl ?_
  refine j_gf o dJ20_append_2_1 (jw 0 0 rfl rfl) kcJ21 3 (Nat.le_of_ble_eq_true rfl) q731 rfl (q := 4) rfl ?_
  refine j_ist2 o dJ20_append_2_4 rfl (hN 2 (Nat.le_of_ble_eq_true rfl)) (q := 5) rfl ?_
  refine j_ild_n o dJ20_append_2_5 rfl (q := 6) rfl ?_
  refine j_ild_n o dJ20_append_2_6 rfl (q := 7) rfl ?_
  refine j_callS0 o (ctJ8_stringSize hG _ hk) dJ20_append_2_7 q857 wdJ8_stringSize mdJ8_stringSize rfl (Nat.le_of_ble_eq_true rfl) (Nat.le_of_ble_eq_true rfl) (by omega) (Nat.le_of_ble_eq_true rfl) (q := 10) rfl (fun v wd hpost => ?_)
  obtain ⟨rfl, rfl⟩ := hpost
  dsimp only [List.cons_append, List.nil_append, Option.toList]
  refine j_iadd o dJ20_append_2_10 (q := 11) rfl ?_
  refine j_topi o (nI (t.length + (digs k).length)) (nI_add _ _) ?_
  refine j_ist3 o dJ20_append_2_11 rfl (hN 3 (Nat.le_of_ble_eq_true rfl)) (q := 12) rfl ?_
  refine j_ald_n o dJ20_append_2_12 rfl rfl (q := 13) rfl ?_
  refine j_ild_n o dJ20_append_2_13 rfl (q := 14) rfl ?_
  refine j_sp [[(q, _)], [(v, _)]] rfl ?_
  dsimp only [List.cons_append, List.nil_append]
  refine j_callC2 o (C := "java/lang/StringBuilder") (ctJ20_ensure hG _ h2 (by omega) (by omega) h9) dJ20_append_2_14 q755 q757 (o.selp ⟨by decide, by decide⟩ q778 rfl q756 q757) q101 q758 mdJ20_ensureCapacityInternal (jRC.m o (jw 0 0 rfl rfl) (ci := 19) rfl) rfl (Nat.le_of_ble_eq_true rfl) (Nat.le_of_ble_eq_true rfl) (by omega) (Nat.le_of_ble_eq_true rfl) (q := 17) rfl (fun v wd hpost => ?_)
  obtain ⟨rfl, v2, f2, rfl, g1, g2⟩ := hpost
  dsimp only [List.cons_append, List.nil_append, Option.toList]
  refine j_ald_n o dJ20_append_2_17 rfl rfl (q := 18) rfl ?_
  refine j_callC0 o (C := "java/lang/StringBuilder") (ctJ20_isLatin1 hG _ (jwl 0 rfl (List.mem_singleton.mpr rfl))) dJ20_append_2_18 q775 q776 (o.wd _ q778) q101 q779 mdJ20_isLatin1 (jRC.m o (jw 0 0 rfl rfl) (ci := 19) rfl) rfl (Nat.le_of_ble_eq_true rfl) (Nat.le_of_ble_eq_true rfl) (by omega) (Nat.le_of_ble_eq_true rfl) (q := 21) rfl (fun v wd hpost => ?_)
  obtain ⟨rfl, rfl⟩ := hpost
  dsimp only [List.cons_append, List.nil_append, Option.toList]
  refine j_ifeqF o (t := 37) dJ20_append_2_21 (by decide) (q := 24) rfl (by decide) ?_
  refine j_ild_n o dJ20_append_2_24 rfl (q := 25) rfl ?_
  refine j_ild_n o dJ20_append_2_25 rfl (q := 26) rfl ?_
  refine j_ald_n o dJ20_append_2_26 rfl rfl (q := 27) rfl ?_
  refine j_gf o dJ20_append_2_27 (jw 0 0 rfl rfl) kcJ21 0 (Nat.le_of_ble_eq_true rfl) q728 rfl (q := 30) rfl ?_
  refine j_mv1 ?_
  refine j_callS1 o (ctJ8_getChars hG _ hk c1 (by omega) g2) dJ20_append_2_30 q860 wdJ8_getChars mdJ8_getChars rfl (Nat.le_of_ble_eq_true rfl) (Nat.le_of_ble_eq_true rfl) (by omega) (Nat.le_of_ble_eq_true rfl) (q := 33) rfl (fun v wd hpost => ?_)
  obtain ⟨⟨z, rfl⟩, f3, rfl, g3, g4, g5⟩ := hpost
  dsimp only [List.cons_append, List.nil_append, Option.toList]
  refine j_pop o dJ20_append_2_33 rfl (q := 34) rfl ?_
  refine j_goto o 48 dJ20_append_2_34 (by decide) ?_
  refine j_ald_n o dJ20_append_2_48 rfl rfl (q := 49) rfl ?_
  refine j_ild_n o dJ20_append_2_49 rfl (q := 50) rfl ?_
  refine j_mv1 ?_
  refine j_pf o dJ20_append_2_50 0 0 rfl rfl kcJ21 3 (Nat.le_of_ble_eq_true rfl) q731 rfl rfl rfl (Nat.le_of_ble_eq_true rfl) (q := 53) rfl ?_
  dsimp only [List.set]
  refine j_ald_n o dJ20_append_2_53 rfl rfl (q := 54) rfl ?_
  refine j_mg [[(q, _)], [(v2, _)]] _ rfl ?_
  dsimp only [jflat, List.cons_append, List.nil_append]
  exact j_aret o r dJ20_append_2_54 (by first | exact Or.inl ⟨_, rfl⟩ | exact Or.inr ⟨_, rfl⟩) rfl [_] _ rfl (⟨rfl, _, rfl, v2, f3, ml, by rw [List.length_append], snocT h1 g3 (fun j hj => by rw [g4 j hj, g1 j hj]), by rw [List.length_append]; exact g5⟩) (by omega)
theorem ctJ21_append {l : Launch} {g : jG} (hG : GS l g) (bg : va_W) {q i : Nat} {t : List Nat} {w : va_W} (hi : i < 4) (hw : sbW g q t w) (h9 : t.length + (ksT i).length ≤ 574) : KJ21_append l g 6 (uCc (t.length + (ksT i).length) - uCc t.length) [.ref q, .ref (jad g (300 + i))] bg [w] (fun y wd => y = some (.ref q) ∧ ∃ w2, wd = [w2] ∧ sbW g q (t ++ ksT i) w2) := by
  obtain ⟨v, f, ml, e, h1, h2⟩ := id hw
  have hm : ∀ (bg' : va_W) (Y : jY) (wr : List va_W), jM Y bg' (w :: wr) (q, sbO v ml t.length) := fun bg' Y wr => by rw [e]; exact jw 0 0 rfl rfl
  refine Ctr.of [some (.ref q), some (.ref (jad g (300 + i)))] hG (by decide +kernel) rfl (Nat.le_of_ble_eq_true rfl) (fun Y hl hN0 o r hIni => ?_)
  subst hl
  have hN : ∀ i, i < 2 → i < yN Y := fun i h => by rw [hN0]; exact h
  refine j_ald_n o dJ21_append_0 rfl rfl (q := 1) rfl ?_
  refine j_ald_n o dJ21_append_1 rfl rfl (q := 2) rfl ?_
  refine j_callSup1 o (ctJ20_append hG _ hi hw h9) dJ21_append_2 q748 q2050 q740 q749 q101 q750 ⟨by decide, mdJ20_append.2.2⟩ (hm _ _ _) (by rfl) rfl (Nat.le_of_ble_eq_true rfl) (Nat.le_of_ble_eq_true rfl) (by omega) (Nat.le_of_ble_eq_true rfl) (q := 5) rfl (fun v wd hpost => ?_)
  obtain ⟨rfl, w2, rfl, hw2⟩ := hpost
  dsimp only [List.cons_append, List.nil_append, Option.toList]
  refine j_pop o dJ21_append_5 rfl (q := 6) rfl ?_
  refine j_ald_n o dJ21_append_6 rfl rfl (q := 7) rfl ?_
  exact j_aret o r dJ21_append_7 (by first | exact Or.inl ⟨_, rfl⟩ | exact Or.inr ⟨_, rfl⟩) rfl [_] _ rfl (⟨rfl, w2, rfl, hw2⟩) (by omega)
theorem ctJ21_append_2 {l : Launch} {g : jG} (hG : GS l g) (bg : va_W) {q k : Nat} {t : List Nat} {w : va_W} (hk : k < 10000) (hw : sbW g q t w) (h9 : t.length + (digs k).length ≤ 574) : KJ21_append_2 l g 6 (uCc (t.length + (digs k).length) - uCc t.length) [.ref q, .int (nI k)] bg [w] (fun y wd => y = some (.ref q) ∧ ∃ w2, wd = [w2] ∧ sbW g q (t ++ digs k) w2) := by
  obtain ⟨v, f, ml, e, h1, h2⟩ := id hw
  have hm : ∀ (bg' : va_W) (Y : jY) (wr : List va_W), jM Y bg' (w :: wr) (q, sbO v ml t.length) := fun bg' Y wr => by rw [e]; exact jw 0 0 rfl rfl
  refine Ctr.of [some (.ref q), some (.int (nI k))] hG (by decide +kernel) rfl (Nat.le_of_ble_eq_true rfl) (fun Y hl hN0 o r hIni => ?_)
  subst hl
  have hN : ∀ i, i < 2 → i < yN Y := fun i h => by rw [hN0]; exact h
  refine j_ald_n o dJ21_append_2_0 rfl rfl (q := 1) rfl ?_
  refine j_ild_n o dJ21_append_2_1 rfl (q := 2) rfl ?_
  refine j_callSup1 o (ctJ20_append_2 hG _ hk hw h9) dJ21_append_2_2 q854 q2057 q740 q855 q101 q856 ⟨by decide, mdJ20_append_2.2.2⟩ (hm _ _ _) (by rfl) rfl (Nat.le_of_ble_eq_true rfl) (Nat.le_of_ble_eq_true rfl) (by omega) (Nat.le_of_ble_eq_true rfl) (q := 5) rfl (fun v wd hpost => ?_)
  obtain ⟨rfl, w2, rfl, hw2⟩ := hpost
  dsimp only [List.cons_append, List.nil_append, Option.toList]
  refine j_pop o dJ21_append_2_5 rfl (q := 6) rfl ?_
  refine j_ald_n o dJ21_append_2_6 rfl rfl (q := 7) rfl ?_
  exact j_aret o r dJ21_append_2_7 (by first | exact Or.inl ⟨_, rfl⟩ | exact Or.inr ⟨_, rfl⟩) rfl [_] _ rfl (⟨rfl, w2, rfl, hw2⟩) (by omega)
theorem ctJ5_checkLength {l : Launch} {g : jG} (hG : GS l g) (bg : va_W) {n : Nat} (hn : n < 2 ^ 31) : KJ5_checkLength l g 1 0 [.int (nI 0), .int (nI n)] bg [] (fun v wd => v = none ∧ wd = []) := by
  refine Ctr.of [some (.int (nI 0)), some (.int (nI n))] hG (by decide +kernel) rfl (Nat.le_of_ble_eq_true rfl) (fun Y hl hN0 o r hIni => ?_)
  subst hl
  have hN : ∀ i, i < 2 → i < yN Y := fun i h => by rw [hN0]; exact h
  refine j_ild_n o dJ5_checkLength_0 rfl (q := 1) rfl ?_
  refine j_ild_n o dJ5_checkLength_1 rfl (q := 2) rfl ?_
  refine j_icgeT o 37 dJ5_checkLength_2 (by decide) (nI_le (by omega) hn) ?_
  exact j_vret o r dJ5_checkLength_37 [] _ rfl (⟨rfl, rfl⟩) (by omega)
theorem ctJ5_copyOfRangeByte {l : Launch} {g : jG} (hG : GS l g) (bg : va_W) {v cap n : Nat} {f : Nat → Int32} (hv : (v, eA g 2 cap f) ∈ bg) (hf : fitB cap f) (h1 : n ≤ cap) (h9 : cap < 2 ^ 12) : KJ5_copyOfRangeByte l g 2 (n / 12 + 1) [.ref v, .int (nI 0), .int (nI n)] bg [] (fun y wd => ∃ a f2, y = some (.ref a) ∧ wd = [[(a, eA g 2 n f2)]] ∧ ∀ i, i < n → f2 i = f i) := by
  refine Ctr.of [some (.ref v), some (.int (nI 0)), some (.int (nI n)), none, none] hG (by decide +kernel) rfl (Nat.le_of_ble_eq_true rfl) (fun Y hl hN0 o r hIni => ?_)
  subst hl
  have hN : ∀ i, i < 5 → i < yN Y := fun i h => by rw [hN0]; exact h
  refine j_ild_n o dJ5_copyOfRangeByte_0 rfl (q := 1) rfl ?_
  refine j_ild_n o dJ5_copyOfRangeByte_1 rfl (q := 2) rfl ?_
  refine j_callS0 o (ctJ5_checkLength hG _ (by omega)) dJ5_copyOfRangeByte_2 q908 wdJ5_checkLength mdJ5_checkLength rfl (Nat.le_of_ble_eq_true rfl) (Nat.le_of_ble_eq_true rfl) (by omega) (Nat.le_of_ble_eq_true rfl) (q := 5) rfl (fun v wd hpost => ?_)
  obtain ⟨rfl, rfl⟩ := hpost
  dsimp only [List.cons_append, List.nil_append, Option.toList]
  refine j_ild_n o dJ5_copyOfRangeByte_5 rfl (q := 6) rfl ?_
  refine j_ild_n o dJ5_copyOfRangeByte_6 rfl (q := 7) rfl ?_
  refine j_isub o dJ5_copyOfRangeByte_7 (q := 8) rfl ?_
  refine j_topi o (nI n) ((by rw [pk_sub (Nat.zero_le _), Nat.sub_zero])) ?_
  refine j_ist3 o dJ5_copyOfRangeByte_8 rfl (hN 3 (Nat.le_of_ble_eq_true rfl)) (q := 9) rfl ?_
  refine j_ild_n o dJ5_copyOfRangeByte_9 rfl (q := 10) rfl ?_
  refine j_newB o (n/12+1) dJ5_copyOfRangeByte_10 (by first | decide | omega) (by omega) (by first | decide | omega) (q := 12) rfl (fun a hb_a => ?_)
  refine j_ast4 o dJ5_copyOfRangeByte_12 rfl rfl (hN 4 (Nat.le_of_ble_eq_true rfl)) (q := 14) rfl ?_
  refine j_ald_n o dJ5_copyOfRangeByte_14 rfl rfl (q := 15) rfl ?_
  refine j_ild_n o dJ5_copyOfRangeByte_15 rfl (q := 16) rfl ?_
  refine j_ald o dJ5_copyOfRangeByte_16 rfl rfl (q := 18) rfl ?_
  refine j_iconst o (nI 0) dJ5_copyOfRangeByte_18 (by decide) (q := 19) rfl ?_
  refine j_ald_n o dJ5_copyOfRangeByte_19 rfl rfl (q := 20) rfl ?_
  refine j_alen o dJ5_copyOfRangeByte_20 (n := cap) (jb hv) rfl rfl (q := 21) rfl ?_
  refine j_ild_n o dJ5_copyOfRangeByte_21 rfl (q := 22) rfl ?_
  refine j_isub o dJ5_copyOfRangeByte_22 (q := 23) rfl ?_
  refine j_topi o (nI cap) ((by rw [pk_sub (Nat.zero_le _), Nat.sub_zero])) ?_
  refine j_ild_n o dJ5_copyOfRangeByte_23 rfl (q := 24) rfl ?_
  refine j_mmin o dJ5_copyOfRangeByte_24 q281 (by omega) (by omega) (Nat.le_of_ble_eq_true rfl) (by omega) (Nat.le_of_ble_eq_true rfl) (q := 27) rfl ?_
  rw [show min cap n = n by omega]
  refine j_copyA o (by omega) 2 rfl rfl dJ5_copyOfRangeByte_27 q284 0 0 rfl rfl (jb hv) (fun i hi => by rw [Nat.zero_add]; exact hf i (by omega)) (by omega) (by omega) (by omega) (by omega) (by decide) (q := 30) rfl ?_
  dsimp only [List.set]
  refine j_ald o dJ5_copyOfRangeByte_30 rfl rfl (q := 32) rfl ?_
  exact j_aret o r dJ5_copyOfRangeByte_32 (by first | exact Or.inl ⟨_, rfl⟩ | exact Or.inr ⟨_, rfl⟩) rfl [_] _ rfl (⟨a, _, rfl, rfl, fun i hi => by unfold va_cpy; rw [if_pos (by omega), Nat.zero_add, Nat.sub_zero]⟩) (by omega)
theorem ctJ5_copyOfRange {l : Launch} {g : jG} (hG : GS l g) (bg : va_W) {v cap n : Nat} {f : Nat → Int32} (hv : (v, eA g 2 cap f) ∈ bg) (hf : fitB cap f) (h1 : n ≤ cap) (h9 : cap < 2 ^ 12) : KJ5_copyOfRange l g 3 (n / 12 + 1) [.ref v, .int (nI 0), .int (nI n)] bg [] (fun y wd => ∃ a f2, y = some (.ref a) ∧ wd = [[(a, eA g 2 n f2)]] ∧ ∀ i, i < n → f2 i = f i) := by
  refine Ctr.of [some (.ref v), some (.int (nI 0)), some (.int (nI n))] hG (by decide +kernel) rfl (Nat.le_of_ble_eq_true rfl) (fun Y hl hN0 o r hIni => ?_)
  subst hl
  have hN : ∀ i, i < 3 → i < yN Y := fun i h => by rw [hN0]; exact h
  refine j_ild_n o dJ5_copyOfRange_0 rfl (q := 1) rfl ?_
  refine j_ifneF o (t := 10) dJ5_copyOfRange_1 (by decide) (q := 4) rfl rfl ?_
  refine j_ild_n o dJ5_copyOfRange_4 rfl (q := 5) rfl ?_
  refine j_ald_n o dJ5_copyOfRange_5 rfl rfl (q := 6) rfl ?_
  refine j_alen o dJ5_copyOfRange_6 (n := cap) (jb hv) rfl rfl (q := 7) rfl ?_
  by_cases he : n = cap
  · subst he
    refine j_iceqT o 17 dJ5_copyOfRange_7 (by decide) rfl ?_
    refine j_ald_n o dJ5_copyOfRange_17 rfl rfl (q := 18) rfl ?_
    refine j_clone o (by omega) 2 (n / 12 + 1) dJ5_copyOfRange_18 q768 q769 q772 q773 rfl (jnmB o.ka) (jb hv) hf (by decide) (by omega) (by omega) (q := 21) rfl (fun a ha => ?_)
    refine j_castA o dJ5_copyOfRange_21 q774 (jw 0 0 rfl rfl) (fun _ h => jnmB h) (q := 24) rfl ?_
    exact j_aret o r dJ5_copyOfRange_24 (by first | exact Or.inl ⟨_, rfl⟩ | exact Or.inr ⟨_, rfl⟩) rfl [_] _ rfl (⟨a, f, rfl, rfl, fun _ _ => rfl⟩) (by omega)
  · refine j_iceqF o (t := 17) dJ5_copyOfRange_7 (by decide) (q := 10) rfl (fun h => he ((nI_eq (by omega) (by omega)).mp h)) ?_
    refine j_ald_n o dJ5_copyOfRange_10 rfl rfl (q := 11) rfl ?_
    refine j_ild_n o dJ5_copyOfRange_11 rfl (q := 12) rfl ?_
    refine j_ild_n o dJ5_copyOfRange_12 rfl (q := 13) rfl ?_
    refine j_callS0 o (ctJ5_copyOfRangeByte hG _ (jmr hv) hf h1 h9) dJ5_copyOfRange_13 q905 wdJ5_copyOfRangeByte mdJ5_copyOfRangeByte rfl (Nat.le_of_ble_eq_true rfl) (Nat.le_of_ble_eq_true rfl) (by omega) (Nat.le_of_ble_eq_true rfl) (q := 16) rfl (fun v wd hpost => ?_)
    obtain ⟨a, f2, rfl, rfl, g1⟩ := hpost
    dsimp only [List.cons_append, List.nil_append, Option.toList]
    exact j_aret o r dJ5_copyOfRange_16 (by first | exact Or.inl ⟨_, rfl⟩ | exact Or.inr ⟨_, rfl⟩) rfl [_] _ rfl (⟨a, f2, rfl, rfl, g1⟩) (by omega)
theorem ctJ9_init_2 {l : Launch} {g : jG} (hG : GS l g) (bg : va_W) {s q : Nat} {t : List Nat} {wb : va_W} (hb : sbW g q t wb) (hbg : ∀ c ∈ wb, c ∈ bg) (h9 : t.length ≤ 574) : KJ9_init_2 l g 4 (t.length / 12 + 1) [.ref s, .ref q, .null] bg [[(s, eO 18 fdJ9)]] (fun y wd => y = none ∧ ∃ w, wd = [w] ∧ stgR g w s t) := by
  obtain ⟨v, f, ml, rfl, h1, h2⟩ := hb
  have m1 : (q, sbO v ml t.length) ∈ bg := hbg _ (by simp)
  have m2 : (v, eA g 2 (cpc t.length) f) ∈ bg := hbg _ (by simp)
  obtain ⟨c1, c2, c3⟩ := cpc_le h9
  refine Ctr.of [some (.ref s), some (.ref q), some .null, none, none] hG (by decide +kernel) rfl (Nat.le_of_ble_eq_true rfl) (fun Y hl hN0 o r hIni => ?_)
  subst hl
  have hN : ∀ i, i < 5 → i < yN Y := fun i h => by rw [hN0]; exact h
  refine j_ald_n o dJ9_init_2_0 rfl rfl (q := 1) rfl ?_
  refine j_obj o (Nat.le_of_ble_eq_true rfl) dJ9_init_2_1 q887 q110 q111 (Nat.le_of_ble_eq_true rfl) (q := 4) rfl ?_
  refine j_ald_n o dJ9_init_2_4 rfl rfl (q := 5) rfl ?_
  refine j_callC0 o (C := "java/lang/StringBuilder") (ctJ20_getValue hG _ (jmr m1)) dJ9_init_2_5 q888 q889 (o.wd _ q891) q101 q892 mdJ20_getValue (jRC.m o (jb m1) (ci := 19) rfl) rfl (Nat.le_of_ble_eq_true rfl) (Nat.le_of_ble_eq_true rfl) (by omega) (Nat.le_of_ble_eq_true rfl) (q := 8) rfl (fun v wd hpost => ?_)
  obtain ⟨rfl, rfl⟩ := hpost
  dsimp only [List.cons_append, List.nil_append, Option.toList]
  refine j_ast3 o dJ9_init_2_8 rfl rfl (hN 3 (Nat.le_of_ble_eq_true rfl)) (q := 9) rfl ?_
  refine j_ald_n o dJ9_init_2_9 rfl rfl (q := 10) rfl ?_
  refine j_callO o (y := yJ21_length) (owner := "java/lang/AbstractStringBuilder") (ctJ21_length hG _ (jmr m1)) dJ9_init_2_10 q893 q895 q894 q896 q897 q102 q898 q900 ⟨by decide, by decide, by decide⟩ (jRC.m o (jb m1) (ci := 19) rfl) rfl (Nat.le_of_ble_eq_true rfl) (Nat.le_of_ble_eq_true rfl) (by omega) (Nat.le_of_ble_eq_true rfl) (q := 13) rfl (fun v wd hpost => ?_)
  obtain ⟨rfl, rfl⟩ := hpost
  dsimp only [List.cons_append, List.nil_append, Option.toList]
  refine j_ist4 o dJ9_init_2_13 rfl (hN 4 (Nat.le_of_ble_eq_true rfl)) (q := 15) rfl ?_
  refine j_ald_n o dJ9_init_2_15 rfl rfl (q := 16) rfl ?_
  refine j_callC0 o (C := "java/lang/StringBuilder") (ctJ20_isLatin1 hG _ (jmr m1)) dJ9_init_2_16 q901 q776 (o.wd _ q778) q101 q779 mdJ20_isLatin1 (jRC.m o (jb m1) (ci := 19) rfl) rfl (Nat.le_of_ble_eq_true rfl) (Nat.le_of_ble_eq_true rfl) (by omega) (Nat.le_of_ble_eq_true rfl) (q := 19) rfl (fun v wd hpost => ?_)
  obtain ⟨rfl, rfl⟩ := hpost
  dsimp only [List.cons_append, List.nil_append, Option.toList]
  refine j_ifeqF o (t := 41) dJ9_init_2_19 (by decide) (q := 22) rfl (by decide) ?_
  refine j_ald_n o dJ9_init_2_22 rfl rfl (q := 23) rfl ?_
  refine j_iconst o (nI 0) dJ9_init_2_23 (by decide) (q := 24) rfl ?_
  refine j_pfF o dJ9_init_2_24 (hIni rfl) 0 0 rfl rfl kcJ9 1 (Nat.le_of_ble_eq_true rfl) q998 rfl rfl rfl rfl (Nat.le_of_ble_eq_true rfl) (q := 27) rfl ?_
  dsimp only [List.set]
  refine j_ald_n o dJ9_init_2_27 rfl rfl (q := 28) rfl ?_
  refine j_ald_n o dJ9_init_2_28 rfl rfl (q := 29) rfl ?_
  refine j_iconst o (nI 0) dJ9_init_2_29 (by decide) (q := 30) rfl ?_
  refine j_ild o dJ9_init_2_30 rfl (q := 32) rfl ?_
  refine j_callS0 o (ctJ5_copyOfRange hG _ (jmr m2) h2 c1 (by omega)) dJ9_init_2_32 q902 wdJ5_copyOfRange mdJ5_copyOfRange rfl (Nat.le_of_ble_eq_true rfl) (Nat.le_of_ble_eq_true rfl) (by omega) (Nat.le_of_ble_eq_true rfl) (q := 35) rfl (fun v wd hpost => ?_)
  obtain ⟨a, f2, rfl, rfl, g1⟩ := hpost
  dsimp only [List.cons_append, List.nil_append, Option.toList]
  refine j_pfF o dJ9_init_2_35 (hIni rfl) 1 0 rfl rfl kcJ9 0 (Nat.le_of_ble_eq_true rfl) q997 rfl rfl rfl rfl (Nat.le_of_ble_eq_true rfl) (q := 38) rfl ?_
  dsimp only [List.set]
  refine j_goto o 97 dJ9_init_2_38 (by decide) ?_
  refine j_mgN [_, _] (fun w hw => ?_)
  first | dsimp only [List.cons_append, List.nil_append] | skip
  exact j_vret o r dJ9_init_2_97 [_] _ rfl (⟨rfl, w, rfl, a, 0, 0, f2, hw.mem_iff.mpr (List.mem_cons_of_mem _ (List.mem_singleton.mpr rfl)), hw.mem_iff.mpr List.mem_cons_self, fun i x hx => by rw [g1 i (get_lt hx)]; exact h1 i x hx⟩) (by omega)
theorem ctJ9_init {l : Launch} {g : jG} (hG : GS l g) (bg : va_W) {s q : Nat} {t : List Nat} {wb : va_W} (hb : sbW g q t wb) (hbg : ∀ c ∈ wb, c ∈ bg) (h9 : t.length ≤ 574) : KJ9_init l g 5 (t.length / 12 + 1) [.ref s, .ref q] bg [[(s, eO 18 fdJ9)]] (fun y wd => y = none ∧ ∃ w, wd = [w] ∧ stgR g w s t) := by
  refine Ctr.of [some (.ref s), some (.ref q)] hG (by decide +kernel) rfl (Nat.le_of_ble_eq_true rfl) (fun Y hl hN0 o r hIni => ?_)
  subst hl
  have hN : ∀ i, i < 2 → i < yN Y := fun i h => by rw [hN0]; exact h
  refine j_ald_n o dJ9_init_0 rfl rfl (q := 1) rfl ?_
  refine j_ald_n o dJ9_init_1 rfl rfl (q := 2) rfl ?_
  refine j_null o dJ9_init_2 (q := 3) rfl ?_
  refine j_callI1 o (ctJ9_init_2 hG _ hb (fun c h => jmr (hbg c h)) h9) dJ9_init_3 q884 wdJ9_init_2 mdJ9_init_2 rfl rfl (Nat.le_of_ble_eq_true rfl) (Nat.le_of_ble_eq_true rfl) (by omega) (Nat.le_of_ble_eq_true rfl) (q := 6) rfl (fun v wd hpost => ?_)
  obtain ⟨rfl, w, rfl, hw⟩ := hpost
  dsimp only [List.cons_append, List.nil_append, Option.toList]
  exact j_vret o r dJ9_init_6 [_] _ rfl (⟨rfl, w, rfl, hw⟩) (by omega)
theorem ctJ21_toString {l : Launch} {g : jG} (hG : GS l g) (bg : va_W) {q : Nat} {t : List Nat} {wb : va_W} (hb : sbW g q t wb) (hbg : ∀ c ∈ wb, c ∈ bg) (h9 : t.length ≤ 574) : KJ21_toString l g 6 (t.length / 12 + 2) [.ref q] bg [] (fun y wd => ∃ s w, y = some (.ref s) ∧ wd = [w] ∧ stgR g w s t) := by
  refine Ctr.of [some (.ref q)] hG (by decide +kernel) rfl (Nat.le_of_ble_eq_true rfl) (fun Y hl hN0 o r hIni => ?_)
  subst hl
  have hN : ∀ i, i < 1 → i < yN Y := fun i h => by rw [hN0]; exact h
  refine j_new o (fs := fdJ9) 1 dJ21_toString_0 kcJ9 q879 q880 q84 dfJ9 (by omega) (by decide) (q := 3) rfl (fun s hb_s => ?_)
  refine j_dup o dJ21_toString_3 rfl (q := 4) rfl ?_
  refine j_ald_n o dJ21_toString_4 rfl rfl (q := 5) rfl ?_
  refine j_callI1 o (ctJ9_init hG _ hb (fun c h => jmr (hbg c h)) h9) dJ21_toString_5 q881 wdJ9_init mdJ9_init rfl rfl (Nat.le_of_ble_eq_true rfl) (Nat.le_of_ble_eq_true rfl) (by omega) (Nat.le_of_ble_eq_true rfl) (q := 8) rfl (fun v wd hpost => ?_)
  obtain ⟨rfl, w, rfl, hw⟩ := hpost
  dsimp only [List.cons_append, List.nil_append, Option.toList]
  exact j_aret o r dJ21_toString_8 (by first | exact Or.inl ⟨_, rfl⟩ | exact Or.inr ⟨_, rfl⟩) rfl [_] _ rfl (⟨s, w, rfl, rfl, hw⟩) (by omega)
theorem ctJ10_equals {l : Launch} {g : jG} (hG : GS l g) (bg : va_W) {a b n : Nat} {f f2 : Nat → Int32} (ha : (a, eA g 2 n f) ∈ bg) (hb : (b, eA g 2 n f2) ∈ bg) (h : ∀ i, i < n → f i = f2 i) (h9 : n < 2 ^ 20) : KJ10_equals l g 1 0 [.ref a, .ref b] bg [] (fun y wd => y = some (.int (nI 1)) ∧ wd = []) := by
  refine Ctr.of [some (.ref a), some (.ref b), none] hG (by decide +kernel) rfl (Nat.le_of_ble_eq_true rfl) (fun Y hl hN0 o r hIni => ?_)
  subst hl
  have hN : ∀ i, i < 3 → i < yN Y := fun i h => by rw [hN0]; exact h
  have loop : ∀ d i, i + d = n → J g Y [] 0 9 [some (.ref a), some (.ref b), some (.int (nI i))] [] := by
    intro d
    induction d with
    | zero =>
      intro i hi
      refine j_ild_n o dJ10_equals_9 rfl (q := 10) rfl ?_
      refine j_ald_n o dJ10_equals_10 rfl rfl (q := 11) rfl ?_
      refine j_alen o dJ10_equals_11 (n := n) (jb ha) rfl rfl (q := 12) rfl ?_
      refine j_icgeT o 32 dJ10_equals_12 (by decide) (nI_le (by omega) (by omega)) ?_
      refine j_iconst o (nI 1) dJ10_equals_32 (by decide) (q := 33) rfl ?_
      exact j_ret o r dJ10_equals_33 rfl [] _ rfl (⟨rfl, rfl⟩) (by omega)
    | succ d ih =>
      intro i hi
      refine j_ild_n o dJ10_equals_9 rfl (q := 10) rfl ?_
      refine j_ald_n o dJ10_equals_10 rfl rfl (q := 11) rfl ?_
      refine j_alen o dJ10_equals_11 (n := n) (jb ha) rfl rfl (q := 12) rfl ?_
      refine j_icgeF o (t := 32) dJ10_equals_12 (by decide) (q := 15) rfl (nI_ge (by omega) (by omega)) ?_
      refine j_ald_n o dJ10_equals_15 rfl rfl (q := 16) rfl ?_
      refine j_ild_n o dJ10_equals_16 rfl (q := 17) rfl ?_
      refine j_bald o dJ10_equals_17 (jb ha) (by omega) (by omega) (q := 18) rfl ?_
      refine j_ald_n o dJ10_equals_18 rfl rfl (q := 19) rfl ?_
      refine j_ild_n o dJ10_equals_19 rfl (q := 20) rfl ?_
      refine j_bald o dJ10_equals_20 (jb hb) (by omega) (by omega) (q := 21) rfl ?_
      refine j_iceqT o 26 dJ10_equals_21 (by decide) (h i (by omega)) ?_
      refine j_inc2 o (nI (i + 1)) dJ10_equals_26 (by first | exact nI_1 _ | exact pk_m1 _ | rfl) rfl (q := 29) rfl ?_
      refine j_goto o 9 dJ10_equals_29 (by decide) ?_
      exact ih (i + 1) (by omega)
  refine j_ald_n o dJ10_equals_0 rfl rfl (q := 1) rfl ?_
  refine j_alen o dJ10_equals_1 (n := n) (jb ha) rfl rfl (q := 2) rfl ?_
  refine j_ald_n o dJ10_equals_2 rfl rfl (q := 3) rfl ?_
  refine j_alen o dJ10_equals_3 (n := n) (jb hb) rfl rfl (q := 4) rfl ?_
  refine j_icneF o (t := 34) dJ10_equals_4 (by decide) (q := 7) rfl rfl ?_
  refine j_iconst o (nI 0) dJ10_equals_7 (by decide) (q := 8) rfl ?_
  refine j_ist2 o dJ10_equals_8 rfl (hN 2 (Nat.le_of_ble_eq_true rfl)) (q := 9) rfl ?_
  exact loop n 0 (by omega)
theorem ctJ9_equalsK {l : Launch} {g : jG} (hG : GS l g) (bg : va_W) {a : Nat} : KJ9_equals l g 1 0 [.ref a, .ref a] bg [] (fun y wd => y = some (.int (nI 1)) ∧ wd = []) := by
  refine Ctr.of [some (.ref a), some (.ref a), none] hG (by decide +kernel) rfl (Nat.le_of_ble_eq_true rfl) (fun Y hl hN0 o r hIni => ?_)
  subst hl
  have hN : ∀ i, i < 3 → i < yN Y := fun i h => by rw [hN0]; exact h
  refine j_ald_n o dJ9_equals_0 rfl rfl (q := 1) rfl ?_
  refine j_ald_n o dJ9_equals_1 rfl rfl (q := 2) rfl ?_
  refine j_acneF (rx := some _) (ry := some _) o (t := 7) dJ9_equals_2 (by decide) (q := 5) rfl rfl ?_
  refine j_iconst o (nI 1) dJ9_equals_5 (by decide) (q := 6) rfl ?_
  exact j_ret o r dJ9_equals_6 rfl [] _ rfl (⟨rfl, rfl⟩) (by omega)
theorem ctJ9_equals {l : Launch} {g : jG} (hG : GS l g) (bg : va_W) {a b : Nat} {t : List Nat} (ha : stgR g bg a t) (hb : stgR g bg b t) (h9 : t.length < 2 ^ 20) : KJ9_equals l g 2 0 [.ref a, .ref b] bg [] (fun y wd => y = some (.int (nI 1)) ∧ wd = []) := by
  obtain ⟨v, h, z, f, h1, h2, h3⟩ := ha
  obtain ⟨v2, hh2, z2, f2, g1, g2, g3⟩ := hb
  refine Ctr.of [some (.ref a), some (.ref b), none] hG (by decide +kernel) rfl (Nat.le_of_ble_eq_true rfl) (fun Y hl hN0 o r hIni => ?_)
  subst hl
  have hN : ∀ i, i < 3 → i < yN Y := fun i h => by rw [hN0]; exact h
  refine j_ald_n o dJ9_equals_0 rfl rfl (q := 1) rfl ?_
  refine j_ald_n o dJ9_equals_1 rfl rfl (q := 2) rfl ?_
  refine j_acne (rx := some _) (ry := some _) o 7 dJ9_equals_2 (by decide) (q := 5) rfl (fun c => ?_) (fun c => ?_)
  · refine j_ald_n o dJ9_equals_7 rfl rfl (q := 8) rfl ?_
    refine j_instR o dJ9_equals_8 q1555 (jRC.m o (jb g1) (ci := 18) rfl) (q := 11) rfl ?_
    refine j_ifeqF o (t := 54) dJ9_equals_11 (by decide) (q := 14) rfl (by decide) ?_
    refine j_ald_n o dJ9_equals_14 rfl rfl (q := 15) rfl ?_
    refine j_castS (r := (RJ9, TJ9, 4)) o dJ9_equals_15 q1555 (jb g1) (ci := 18) rfl (q := 18) rfl ?_
    refine j_ast2 o dJ9_equals_18 rfl rfl (hN 2 (Nat.le_of_ble_eq_true rfl)) (q := 19) rfl ?_
    refine j_gs o dJ9_equals_19 o.kf.2.2.2.2.2.2.2.2.2.2.2.2.1 q814 (q := 22) rfl ?_
    refine j_ifeqF o (t := 36) dJ9_equals_22 (by decide) (q := 25) rfl (by decide) ?_
    refine j_ald_n o dJ9_equals_25 rfl rfl (q := 26) rfl ?_
    refine j_gf o dJ9_equals_26 (jb h1) kcJ9 1 (Nat.le_of_ble_eq_true rfl) q998 rfl (q := 29) rfl ?_
    refine j_ald_n o dJ9_equals_29 rfl rfl (q := 30) rfl ?_
    refine j_gf o dJ9_equals_30 (jb g1) kcJ9 1 (Nat.le_of_ble_eq_true rfl) q998 rfl (q := 33) rfl ?_
    refine j_icneF o (t := 54) dJ9_equals_33 (by decide) (q := 36) rfl rfl ?_
    refine j_ald_n o dJ9_equals_36 rfl rfl (q := 37) rfl ?_
    refine j_gf o dJ9_equals_37 (jb h1) kcJ9 0 (Nat.le_of_ble_eq_true rfl) q997 rfl (q := 40) rfl ?_
    refine j_ald_n o dJ9_equals_40 rfl rfl (q := 41) rfl ?_
    refine j_gf o dJ9_equals_41 (jb g1) kcJ9 0 (Nat.le_of_ble_eq_true rfl) q997 rfl (q := 44) rfl ?_
    refine j_callS0 o (ctJ10_equals hG _ (jmr h2) (jmr g2) (fun i hi => by obtain ⟨x, hx⟩ := get_ex (xs := t) hi; rw [h3 i x hx, g3 i x hx]) h9) dJ9_equals_44 q1556 wdJ10_equals mdJ10_equals rfl (Nat.le_of_ble_eq_true rfl) (Nat.le_of_ble_eq_true rfl) (by omega) (Nat.le_of_ble_eq_true rfl) (q := 47) rfl (fun v wd hpost => ?_)
    obtain ⟨rfl, rfl⟩ := hpost
    dsimp only [List.cons_append, List.nil_append, Option.toList]
    refine j_ifeqF o (t := 54) dJ9_equals_47 (by decide) (q := 50) rfl (by decide) ?_
    refine j_iconst o (nI 1) dJ9_equals_50 (by decide) (q := 51) rfl ?_
    refine j_goto o 55 dJ9_equals_51 (by decide) ?_
    exact j_ret o r dJ9_equals_55 rfl [] _ rfl (⟨rfl, rfl⟩) (by omega)
  · refine j_iconst o (nI 1) dJ9_equals_5 (by decide) (q := 6) rfl ?_
    exact j_ret o r dJ9_equals_6 rfl [] _ rfl (⟨rfl, rfl⟩) (by omega)

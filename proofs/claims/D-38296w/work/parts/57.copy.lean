/-! THE STORE, thirteenth: copies -/
set_option maxRecDepth 100000
theorem isBk_att {g : jG} {cap qb fl : Nat} {es pages : List Nat} {w : va_W} (h : isBk g cap qb es pages fl w) : ∃ ch wc ps R, w.Perm (jflat [[(qb, bkO ch fl)], wc, R]) ∧ ps.length = pages.length ∧ AL g ch ps wc ∧ (∀ p ∈ ps, ∃ n rl, (p, pgO n rl) ∈ R) ∧ ∀ p n wp wc2 w2 es2, (∀ j, j < pages.length → pgE cap es2 j = pgE cap es j) → AL g ch (ps ++ [p]) wc2 → isPg g p n (pgE cap es2 pages.length) wp → w2.Perm (jflat [wp, [(qb, bkO ch fl)], wc2, R]) → isBk g cap qb es2 (pages ++ [n]) fl w2 := by
  obtain ⟨ch, wc, ps, wps, hp, hC, hl1, hl2, hP⟩ := h
  refine ⟨ch, wc, ps, wps.flatten, hp, hl1, hC, fun p hpm => ?_, ?_⟩
  · obtain ⟨j, hj⟩ := List.getElem?_of_mem hpm
    have := get_lt hj
    obtain ⟨n, hn1⟩ := get_ex (xs := pages) (i := j) (by omega)
    obtain ⟨wp, hw1⟩ := get_ex (xs := wps) (i := j) (by omega)
    obtain ⟨rl, wl, rfl, hA⟩ := hP j p n wp hj hn1 hw1
    exact ⟨n, rl, List.mem_flatten.mpr ⟨_, List.mem_of_getElem? hw1, List.mem_cons_self⟩⟩
  · intro p n wp wc2 w2 es2 hes hC2 hPg hp2
    refine ⟨ch, wc2, ps ++ [p], wps ++ [wp], ?_, hC2, by simp [hl1], by simp [hl2], fun i p2 n2 wi a1 a2 a3 => ?_⟩
    · exact (by letI : DecidableEq (Nat × va_E) := fun _ _ => Classical.propDecidable _; exact List.perm_iff_count.mpr (fun a_ => by have e0_ := List.Perm.count_eq (hp2) a_; simp only [List.flatten_cons, List.flatten_nil, jflat, List.cons_append, List.nil_append, List.count_append, List.count_cons, List.append_nil, List.count_nil, List.flatten_append, bkO, pgO, stO, eO, tkO, eA] at e0_ ⊢; omega))
    · rcases Nat.lt_or_ge i pages.length with hi | hi
      · rw [List.getElem?_append_left (by omega)] at a1 a2 a3
        rw [hes i hi]
        exact hP i p2 n2 wi a1 a2 a3
      · have h9 := get_lt a2
        simp at h9
        have hi2 : i = pages.length := by omega
        subst hi2
        rw [List.getElem?_append_right (by omega), hl1, Nat.sub_self] at a1
        rw [List.getElem?_append_right (by omega), Nat.sub_self] at a2
        rw [List.getElem?_append_right (by omega), hl2, Nat.sub_self] at a3
        cases a1; cases a2; cases a3
        exact hPg
def uAd : Nat → Nat
  | 0 => 0
  | m + 1 => uAd m + uAdd m
theorem uAd_le {m n : Nat} (h : m ≤ n) : uAd m ≤ uAd n := by
  induction n with
  | zero => rw [show m = 0 by omega]; exact Nat.le_refl _
  | succ n ih =>
    rcases Nat.lt_or_ge n m with h1 | h1
    · rw [show m = n + 1 by omega]; exact Nat.le_refl _
    · exact Nat.le_trans (ih h1) (Nat.le_add_right _ _)
def uCpB (L m : Nat) : Nat := 2 + L + 3 * m + uAd m
theorem pgE_end {cap k : Nat} {es ep : List Nat} (h : es.length = k * cap) (h2 : ep.length ≤ cap) : pgE cap (es ++ ep) k = ep := by
  unfold pgE
  rw [← h, List.drop_left, List.take_of_length_le h2]
theorem pgE_pre {cap j : Nat} {es ep : List Nat} (h : (j + 1) * cap ≤ es.length) : pgE cap (es ++ ep) j = pgE cap es j := by
  rw [Nat.succ_mul] at h
  unfold pgE
  rw [List.drop_append_of_le_length (by omega), List.take_append_of_le_length (by rw [List.length_drop]; omega)]
theorem ctX2_copyOf {l : Launch} {g : jG} (hG : GS l g) (bg : va_W) {its fl cap : Nat} {es pages : List Nat} {rs : List Row} (hB : bkR g bg cap its es pages fl) (hE : entR bg es rs) (hm : 1 ≤ pages.length) (hk : es.length ≤ pages.length * cap) (hk2 : (pages.length - 1) * cap ≤ es.length) (hm9 : pages.length < 2 ^ 10) (hl9 : es.length < 2 ^ 10) (hc : 2 ≤ cap ∧ cap ≤ 4) : KX2_copyOf l g 8 (uCpB es.length pages.length) [.ref its] bg [] (fun v wd => ∃ qb es2 wb we, v = some (.ref qb) ∧ wd = [wb, we] ∧ isBk g cap qb es2 pages fl wb ∧ entR we es2 rs) := by
  obtain ⟨chn, ps, b1, b2, b3⟩ := hB
  obtain ⟨m1, a1, hz1, -⟩ := id b2
  have hpsl := b3.1
  have hEl := hE.1
  have hUd : ∀ m, uCpB es.length m = 2 + es.length + 3 * m + uAd m := fun _ => rfl
  have hU0 := hUd pages.length
  refine Ctr.of [some (.ref its), none, none, none, none] hG (by decide +kernel) rfl (Nat.le_of_ble_eq_true rfl) (fun Y hl hN0 o r hI => ?_)
  subst hl
  have hN : ∀ i, i < 5 → i < yN Y := fun i h => by rw [hN0]; exact h
  refine j_new o (fs := fdX4) 1 dX2_copyOf_0 kcX4 q174 q175 q70 dfX4 (by omega) (by decide) (q := 3) rfl (fun qb hb_qb => ?_)
  refine j_dup o dX2_copyOf_3 rfl (q := 4) rfl ?_
  refine j_callIN1 o (ctX4_init hG _ qb) dX2_copyOf_4 q176 wdX4_init mdX4_init rfl rfl (Nat.le_of_ble_eq_true rfl) (Nat.le_of_ble_eq_true rfl) (by omega) (Nat.le_of_ble_eq_true rfl) (q := 7) rfl (fun v wd hpost => ?_)
  obtain ⟨rfl, ch, wl, rfl, hC⟩ := hpost
  dsimp only [List.cons_append, List.nil_append, Option.toList]
  refine j_ast1 o dX2_copyOf_7 rfl rfl (hN 1 (Nat.le_of_ble_eq_true rfl)) (q := 8) rfl ?_
  refine j_ald_n o dX2_copyOf_8 rfl rfl (q := 9) rfl ?_
  refine j_ald_n o dX2_copyOf_9 rfl rfl (q := 10) rfl ?_
  refine j_gf o dX2_copyOf_10 (jb b1) kcX4 1 (Nat.le_of_ble_eq_true rfl) q186 rfl (q := 13) rfl ?_
  refine j_pf o dX2_copyOf_13 0 0 rfl rfl kcX4 1 (Nat.le_of_ble_eq_true rfl) q186 rfl rfl rfl (Nat.le_of_ble_eq_true rfl) (q := 16) rfl ?_
  dsimp only [List.set]
  refine j_iconst o (nI 0) dX2_copyOf_16 (by decide) (q := 17) rfl ?_
  refine j_ist2 o dX2_copyOf_17 rfl (hN 2 (Nat.le_of_ble_eq_true rfl)) (q := 18) rfl ?_
  refine j_mgN [_, _] (fun w0 hw0 => ?_)
  first | dsimp only [List.cons_append, List.nil_append] | skip
  have hB0 : isBk g cap qb [] [] fl w0 := ⟨ch, wl, [], [], (by letI : DecidableEq (Nat × va_E) := fun _ _ => Classical.propDecidable _; exact List.perm_iff_count.mpr (fun a_ => by have e0_ := List.Perm.count_eq (hw0) a_; simp only [List.flatten_cons, List.flatten_nil, jflat, List.cons_append, List.nil_append, List.count_append, List.count_cons, List.append_nil, List.count_nil, List.flatten_append, bkO, pgO, stO, eO, tkO, eA] at e0_ ⊢; omega)), hC, rfl, rfl, fun j p n w h => by simp at h⟩
  have loop : ∀ (d k : Nat) (w we : va_W) (es2 : List Nat) (u9 : Nat) (x3 x4 : Option Value), k + d = pages.length → isBk g cap qb es2 (pages.take k) fl w → entR we es2 (rs.take (k * cap)) → u9 ≤ uCpB (min (k * cap) es.length) k → J g Y [w, we] u9 18 [some (.ref its), some (.ref qb), some (.int (nI k)), x3, x4] [] := by
    intro d
    induction d with
    | zero =>
      intro k w we es2 u9 x3 x4 d1 d2 d3 d4
      have hk9 : k = pages.length := (by omega)
      subst hk9
      rw [List.take_of_length_le (by omega)] at d2
      rw [List.take_of_length_le (by omega)] at d3
      have d4 : u9 ≤ 2 + min (pages.length * cap) es.length + 3 * pages.length + uAd pages.length := d4
      have := hUd pages.length
      refine j_ild_n o dX2_copyOf_18 rfl (q := 19) rfl ?_
      refine j_ald_n o dX2_copyOf_19 rfl rfl (q := 20) rfl ?_
      refine j_gf o dX2_copyOf_20 (jb b1) kcX4 0 (Nat.le_of_ble_eq_true rfl) q183 rfl (q := 23) rfl ?_
      refine j_callV0 o (ctJ2_size hG _ (jmr hz1)) dX2_copyOf_23 q417 wdJ2_size mdJ2_size (jb hz1) (by rfl) (by rfl) rfl (Nat.le_of_ble_eq_true rfl) (Nat.le_of_ble_eq_true rfl) (by omega) (Nat.le_of_ble_eq_true rfl) (q := 26) rfl (fun v wd hpost => ?_)
      obtain ⟨rfl, rfl⟩ := hpost
      dsimp only [List.cons_append, List.nil_append, Option.toList]
      refine j_icgeT o 130 dX2_copyOf_26 (by decide) (nI_le (by omega) (by omega)) ?_
      refine j_ald_n o dX2_copyOf_130 rfl rfl (q := 131) rfl ?_
      exact j_aret o r dX2_copyOf_131 (by first | exact Or.inl ⟨_, rfl⟩ | exact Or.inr ⟨_, rfl⟩) rfl [_, _] _ rfl (⟨qb, es2, w, we, rfl, rfl, d2, d3⟩) (by omega)
    | succ d ih =>
      intro k w we es2 u9 x3 x4 d1 d2_ d3 d4
      have hkL : k * cap ≤ es.length := (by have : k * cap ≤ (pages.length - 1) * cap := Nat.mul_le_mul_right _ (by omega); omega)
      have he2 : es2.length = k * cap := (by rw [d3.1, List.length_take]; omega)
      have hk1 : (k + 1) * cap = k * cap + cap := Nat.succ_mul _ _
      have d4 : u9 ≤ 2 + min (k * cap) es.length + 3 * k + uAd k := d4
      have hUk : uAd (k + 1) = uAd k + uAdd k := rfl
      have hUm : uAd (k + 1) ≤ uAd pages.length := uAd_le (by omega)
      have hU9 := hUd pages.length
      obtain ⟨p, hp⟩ := get_ex (xs := ps) (i := k) (by omega)
      obtain ⟨n, rl, hn, hpc, hA⟩ := b3.2 k p hp
      obtain ⟨m2, a2, hz2, -⟩ := id hA
      have hpl : (pgE cap es k).length = min cap (es.length - k * cap) := pgE_len _ _ _
      refine j_ild_n o dX2_copyOf_18 rfl (q := 19) rfl ?_
      refine j_ald_n o dX2_copyOf_19 rfl rfl (q := 20) rfl ?_
      refine j_gf o dX2_copyOf_20 (jb b1) kcX4 0 (Nat.le_of_ble_eq_true rfl) q183 rfl (q := 23) rfl ?_
      refine j_callV0 o (ctJ2_size hG _ (jmr hz1)) dX2_copyOf_23 q417 wdJ2_size mdJ2_size (jb hz1) (by rfl) (by rfl) rfl (Nat.le_of_ble_eq_true rfl) (Nat.le_of_ble_eq_true rfl) (by omega) (Nat.le_of_ble_eq_true rfl) (q := 26) rfl (fun v wd hpost => ?_)
      obtain ⟨rfl, rfl⟩ := hpost
      dsimp only [List.cons_append, List.nil_append, Option.toList]
      refine j_icgeF o (t := 130) dX2_copyOf_26 (by decide) (q := 29) rfl (nI_ge (by omega) (by omega)) ?_
      refine j_new o (fs := fdX5) 1 dX2_copyOf_29 kcX5 q198 q199 q71 dfX5 (by omega) (by decide) (q := 32) rfl (fun p2 hb_p2 => ?_)
      refine j_dup o dX2_copyOf_32 rfl (q := 33) rfl ?_
      refine j_ald_n o dX2_copyOf_33 rfl rfl (q := 34) rfl ?_
      refine j_gf o dX2_copyOf_34 (jb b1) kcX4 0 (Nat.le_of_ble_eq_true rfl) q183 rfl (q := 37) rfl ?_
      refine j_ild_n o dX2_copyOf_37 rfl (q := 38) rfl ?_
      refine j_callV0 o (ctJ2_get hG _ (b2.mono (fun _ => jmr)) hp) dX2_copyOf_38 q418 wdJ2_get mdJ2_get (jb hz1) (by rfl) (by rfl) rfl (Nat.le_of_ble_eq_true rfl) (Nat.le_of_ble_eq_true rfl) (by omega) (Nat.le_of_ble_eq_true rfl) (q := 41) rfl (fun v wd hpost => ?_)
      obtain ⟨rfl, rfl⟩ := hpost
      dsimp only [List.cons_append, List.nil_append, Option.toList]
      refine j_castS (r := (RX5, TX5, 2)) o dX2_copyOf_41 q198 (jb hpc) (ci := 5) rfl (q := 44) rfl ?_
      refine j_gf o dX2_copyOf_44 (jb hpc) kcX5 0 (Nat.le_of_ble_eq_true rfl) q207 rfl (q := 47) rfl ?_
      refine j_callI1 o (ctX5_init hG _ p2 _) dX2_copyOf_47 q200 wdX5_init mdX5_init rfl rfl (Nat.le_of_ble_eq_true rfl) (Nat.le_of_ble_eq_true rfl) (by omega) (Nat.le_of_ble_eq_true rfl) (q := 50) rfl (fun v wd hpost => ?_)
      obtain ⟨rfl, rl2, wl2, rfl, hA2⟩ := hpost
      dsimp only [List.cons_append, List.nil_append, Option.toList]
      refine j_ast3 o dX2_copyOf_50 rfl rfl (hN 3 (Nat.le_of_ble_eq_true rfl)) (q := 51) rfl ?_
      refine j_iconst o (nI 0) dX2_copyOf_51 (by decide) (q := 52) rfl ?_
      refine j_ist4 o dX2_copyOf_52 rfl (hN 4 (Nat.le_of_ble_eq_true rfl)) (q := 54) rfl ?_
      refine j_spP [[(p2, pgO n rl2)], wl2] (List.Perm.refl _) ?_
      dsimp only [List.cons_append, List.nil_append]
      have inner : ∀ (d2 i : Nat) (wl3 : va_W) (ep : List Nat) (we3 : va_W) (v9 : Nat), i + d2 = (pgE cap es k).length → AL g rl2 ep wl3 → ep.length = i → entR we3 (es2 ++ ep) (rs.take (k * cap + i)) → v9 ≤ u9 + 2 + i + min i 1 → J g Y [[(p2, pgO n rl2)], wl3, w, we3] v9 54 [some (.ref its), some (.ref qb), some (.int (nI k)), some (.ref p2), some (.int (nI i))] [] := by
        intro d2
        induction d2 with
        | zero =>
          intro i wl3 ep we3 v9 g1 g2 g3 g4 g5
          obtain ⟨cb, wc, ps3, R, q1, q2, q3, q4, q5⟩ := isBk_att d2_
          refine j_ild o dX2_copyOf_54 rfl (q := 56) rfl ?_
          refine j_ald_n o dX2_copyOf_56 rfl rfl (q := 57) rfl ?_
          refine j_gf o dX2_copyOf_57 (jb b1) kcX4 0 (Nat.le_of_ble_eq_true rfl) q183 rfl (q := 60) rfl ?_
          refine j_ild_n o dX2_copyOf_60 rfl (q := 61) rfl ?_
          refine j_callV0 o (ctJ2_get hG _ (b2.mono (fun _ => jmr)) hp) dX2_copyOf_61 q418 wdJ2_get mdJ2_get (jb hz1) (by rfl) (by rfl) rfl (Nat.le_of_ble_eq_true rfl) (Nat.le_of_ble_eq_true rfl) (by omega) (Nat.le_of_ble_eq_true rfl) (q := 64) rfl (fun v wd hpost => ?_)
          obtain ⟨rfl, rfl⟩ := hpost
          dsimp only [List.cons_append, List.nil_append, Option.toList]
          refine j_castS (r := (RX5, TX5, 2)) o dX2_copyOf_64 q198 (jb hpc) (ci := 5) rfl (q := 67) rfl ?_
          refine j_gf o dX2_copyOf_67 (jb hpc) kcX5 1 (Nat.le_of_ble_eq_true rfl) q212 rfl (q := 70) rfl ?_
          refine j_callV0 o (ctJ2_size hG _ (jmr hz2)) dX2_copyOf_70 q417 wdJ2_size mdJ2_size (jb hz2) (by rfl) (by rfl) rfl (Nat.le_of_ble_eq_true rfl) (Nat.le_of_ble_eq_true rfl) (by omega) (Nat.le_of_ble_eq_true rfl) (q := 73) rfl (fun v wd hpost => ?_)
          obtain ⟨rfl, rfl⟩ := hpost
          dsimp only [List.cons_append, List.nil_append, Option.toList]
          refine j_icgeT o 115 dX2_copyOf_73 (by decide) (nI_le (by omega) (by omega)) ?_
          refine j_mv2 ?_
          refine j_spP _ (q1) ?_
          dsimp only [List.cons_append, List.nil_append]
          refine j_ald_n o dX2_copyOf_115 rfl rfl (q := 116) rfl ?_
          refine j_gf o dX2_copyOf_116 (jw 0 0 rfl rfl) kcX4 0 (Nat.le_of_ble_eq_true rfl) q183 rfl (q := 119) rfl ?_
          refine j_ald_n o dX2_copyOf_119 rfl rfl (q := 120) rfl ?_
          refine j_mv1 ?_
          have q39 := q3
          obtain ⟨m5, a5, q39⟩ := q39
          obtain ⟨t5, rfl, -⟩ := q39.head
          have hpt : (pages.take k).length = k := (by rw [List.length_take]; omega)
          refine j_callV1 o (ctJ2_add hG _ q3 (fun y hy => by obtain ⟨n5, rl5, h5⟩ := q4 y hy; exact Or.inl ⟨_, jwl 1 rfl h5, trivial⟩) (Or.inl ⟨_, jwl 2 rfl List.mem_cons_self, trivial⟩) (by omega)) dX2_copyOf_120 q218 wdJ2_add mdJ2_add (jw 0 0 rfl rfl) (by rfl) (by rfl) rfl (Nat.le_of_ble_eq_true rfl) (Nat.le_of_ble_eq_true rfl) (by rw [q2, hpt]; omega) (Nat.le_of_ble_eq_true rfl) (q := 123) rfl (fun v wd hpost => ?_)
          obtain ⟨rfl, wc2, rfl, q6⟩ := hpost
          dsimp only [List.cons_append, List.nil_append, Option.toList]
          refine j_pop o dX2_copyOf_123 rfl (q := 124) rfl ?_
          refine j_inc2 o (nI (k + 1)) dX2_copyOf_124 (by first | exact nI_1 _ | exact pk_m1 _ | rfl) rfl (q := 127) rfl ?_
          refine j_goto o 18 dX2_copyOf_127 (by decide) ?_
          refine j_mv4 ?_
          refine j_mv4 ?_
          refine j_mg [[(p2, pgO n rl2)], wl3] ((p2, pgO n rl2) :: wl3) rfl ?_
          refine j_mgN [_, _, _, _] (fun w5 hw5 => ?_)
          first | dsimp only [List.cons_append, List.nil_append] | skip
          have hql : uAdd ps3.length = uAdd k := (by rw [q2, hpt])
          have htk : rs.take ((k + 1) * cap) = rs.take (k * cap + i) := (by
            rcases Nat.lt_or_ge es.length ((k + 1) * cap) with h9 | h9
            · rw [List.take_of_length_le (by omega), List.take_of_length_le (by omega)]
            · rw [show (k + 1) * cap = k * cap + i by omega])
          refine ih (k + 1) w5 we3 (es2 ++ ep) _ _ _ (by omega) ?_ (by rw [htk]; exact g4) (by show _ ≤ 2 + _ + 3 * (k + 1) + _; omega)
          rw [List.take_add_one, hn]
          exact q5 p2 n ((p2, pgO n rl2) :: wl3) wc2 w5 (es2 ++ ep) (fun j hj => pgE_pre (by rw [he2]; exact Nat.mul_le_mul_right _ (by omega))) q6 ⟨rl2, wl3, rfl, by rw [hpt, pgE_end he2 (by omega)]; exact g2⟩ (by letI : DecidableEq (Nat × va_E) := fun _ _ => Classical.propDecidable _; exact List.perm_iff_count.mpr (fun a_ => by have e0_ := List.Perm.count_eq (hw5) a_; simp only [List.flatten_cons, List.flatten_nil, jflat, List.cons_append, List.nil_append, List.count_append, List.count_cons, List.append_nil, List.count_nil, List.flatten_append, bkO, pgO, stO, eO, tkO, eA] at e0_ ⊢; omega))
        | succ d2 ih2 =>
          intro i wl3 ep we3 v9 g1 g2 g3 g4 g5
          obtain ⟨e9, he9⟩ := get_ex (xs := pgE cap es k) (i := i) (by omega)
          have hic : i < cap := (by omega)
          have he9b : es[k * cap + i]? = some e9 := (by rw [← pgE_get hic]; exact he9)
          obtain ⟨r9, hr9⟩ := get_ex (xs := rs) (i := k * cap + i) (by omega)
          have hen := hE.2 _ e9 r9 he9b hr9
          have hu1 : uAdd i ≤ (if i = 0 then 1 else 0) := (by unfold uAdd; split; exact Nat.le_refl _; rw [if_pos (by omega)]; exact Nat.le_refl _)
          have hu2 : v9 + 1 + uAdd i ≤ u9 + 2 + (i + 1) + min (i + 1) 1 := (by split at hu1 <;> omega)
          refine j_ild o dX2_copyOf_54 rfl (q := 56) rfl ?_
          refine j_ald_n o dX2_copyOf_56 rfl rfl (q := 57) rfl ?_
          refine j_gf o dX2_copyOf_57 (jb b1) kcX4 0 (Nat.le_of_ble_eq_true rfl) q183 rfl (q := 60) rfl ?_
          refine j_ild_n o dX2_copyOf_60 rfl (q := 61) rfl ?_
          refine j_callV0 o (ctJ2_get hG _ (b2.mono (fun _ => jmr)) hp) dX2_copyOf_61 q418 wdJ2_get mdJ2_get (jb hz1) (by rfl) (by rfl) rfl (Nat.le_of_ble_eq_true rfl) (Nat.le_of_ble_eq_true rfl) (by omega) (Nat.le_of_ble_eq_true rfl) (q := 64) rfl (fun v wd hpost => ?_)
          obtain ⟨rfl, rfl⟩ := hpost
          dsimp only [List.cons_append, List.nil_append, Option.toList]
          refine j_castS (r := (RX5, TX5, 2)) o dX2_copyOf_64 q198 (jb hpc) (ci := 5) rfl (q := 67) rfl ?_
          refine j_gf o dX2_copyOf_67 (jb hpc) kcX5 1 (Nat.le_of_ble_eq_true rfl) q212 rfl (q := 70) rfl ?_
          refine j_callV0 o (ctJ2_size hG _ (jmr hz2)) dX2_copyOf_70 q417 wdJ2_size mdJ2_size (jb hz2) (by rfl) (by rfl) rfl (Nat.le_of_ble_eq_true rfl) (Nat.le_of_ble_eq_true rfl) (by omega) (Nat.le_of_ble_eq_true rfl) (q := 73) rfl (fun v wd hpost => ?_)
          obtain ⟨rfl, rfl⟩ := hpost
          dsimp only [List.cons_append, List.nil_append, Option.toList]
          refine j_icgeF o (t := 115) dX2_copyOf_73 (by decide) (q := 76) rfl (nI_ge (by omega) (by omega)) ?_
          refine j_ald_n o dX2_copyOf_76 rfl rfl (q := 77) rfl ?_
          refine j_gf o dX2_copyOf_77 (jw 0 0 rfl rfl) kcX5 1 (Nat.le_of_ble_eq_true rfl) q212 rfl (q := 80) rfl ?_
          refine j_ald_n o dX2_copyOf_80 rfl rfl (q := 81) rfl ?_
          refine j_gf o dX2_copyOf_81 (jb b1) kcX4 0 (Nat.le_of_ble_eq_true rfl) q183 rfl (q := 84) rfl ?_
          refine j_ild_n o dX2_copyOf_84 rfl (q := 85) rfl ?_
          refine j_callV0 o (ctJ2_get hG _ (b2.mono (fun _ => jmr)) hp) dX2_copyOf_85 q418 wdJ2_get mdJ2_get (jb hz1) (by rfl) (by rfl) rfl (Nat.le_of_ble_eq_true rfl) (Nat.le_of_ble_eq_true rfl) (by omega) (Nat.le_of_ble_eq_true rfl) (q := 88) rfl (fun v wd hpost => ?_)
          obtain ⟨rfl, rfl⟩ := hpost
          dsimp only [List.cons_append, List.nil_append, Option.toList]
          refine j_castS (r := (RX5, TX5, 2)) o dX2_copyOf_88 q198 (jb hpc) (ci := 5) rfl (q := 91) rfl ?_
          refine j_gf o dX2_copyOf_91 (jb hpc) kcX5 1 (Nat.le_of_ble_eq_true rfl) q212 rfl (q := 94) rfl ?_
          refine j_ild o dX2_copyOf_94 rfl (q := 96) rfl ?_
          refine j_callV0 o (ctJ2_get hG _ (hA.mono (fun _ => jmr)) he9) dX2_copyOf_96 q418 wdJ2_get mdJ2_get (jb hz2) (by rfl) (by rfl) rfl (Nat.le_of_ble_eq_true rfl) (Nat.le_of_ble_eq_true rfl) (by omega) (Nat.le_of_ble_eq_true rfl) (q := 99) rfl (fun v wd hpost => ?_)
          obtain ⟨rfl, rfl⟩ := hpost
          dsimp only [List.cons_append, List.nil_append, Option.toList]
          refine j_castS (r := (RX11, TX11, 2)) o dX2_copyOf_99 q435 (jb hen) (ci := 11) rfl (q := 102) rfl ?_
          refine j_callV0 o (ctX11_copy hG _ (jmr hen)) dX2_copyOf_102 q436 wdX11_copy mdX11_copy (jb hen) (by rfl) (by rfl) rfl (Nat.le_of_ble_eq_true rfl) (Nat.le_of_ble_eq_true rfl) (by omega) (Nat.le_of_ble_eq_true rfl) (q := 105) rfl (fun v wd hpost => ?_)
          obtain ⟨e2, rfl, hbe, rfl⟩ := hpost
          dsimp only [List.cons_append, List.nil_append, Option.toList]
          refine j_mv2 ?_
          have g29 := g2
          obtain ⟨m5, a5, g29⟩ := g29
          obtain ⟨t5, rfl, -⟩ := g29.head
          refine j_callV1 o (ctJ2_add hG _ g2 (fun y hy => (g4.el y (List.mem_append_right _ hy)).mono (fun _ hc => jwl 3 rfl hc)) (Or.inl ⟨_, jwl 0 rfl List.mem_cons_self, trivial⟩) (by omega)) dX2_copyOf_105 q218 wdJ2_add mdJ2_add (jw 0 0 rfl rfl) (by rfl) (by rfl) rfl (Nat.le_of_ble_eq_true rfl) (Nat.le_of_ble_eq_true rfl) (by rw [g3]; omega) (Nat.le_of_ble_eq_true rfl) (q := 108) rfl (fun v wd hpost => ?_)
          obtain ⟨rfl, wl4, rfl, g6⟩ := hpost
          dsimp only [List.cons_append, List.nil_append, Option.toList]
          rw [g3]
          refine j_pop o dX2_copyOf_108 rfl (q := 109) rfl ?_
          refine j_inc4 o (nI (i + 1)) dX2_copyOf_109 (by first | exact nI_1 _ | exact pk_m1 _ | rfl) rfl (q := 112) rfl ?_
          refine j_goto o 54 dX2_copyOf_112 (by decide) ?_
          refine j_mv4 ?_
          refine j_mv2 ?_
          refine j_mgN [_, _] (fun we4 hwe4 => ?_)
          first | dsimp only [List.cons_append, List.nil_append] | skip
          refine j_mv3 ?_
          refine j_mv2 ?_
          refine j_mv3 ?_
          refine ih2 (i + 1) wl4 (ep ++ [e2]) we4 _ (by omega) g6 (by simp [g3]) ?_ hu2
          rw [← List.append_assoc, show k * cap + (i + 1) = k * cap + i + 1 by omega, List.take_add_one, hr9]
          exact entR_app (g4.mono (fun c hc => hwe4.mem_iff.mpr (by simp [jflat, hc]))) (hwe4.mem_iff.mpr (by simp [jflat]))
      exact inner _ 0 wl2 [] we _ (by rw [Nat.zero_add]) hA2 rfl (by rw [List.append_nil, Nat.add_zero]; exact d3) (by omega)
  refine j_pm [w0, []] (by simp) ?_
  exact loop pages.length 0 w0 [] [] _ none none (by omega) (by simpa using hB0) (by simpa using entR_nil) (by show _ ≤ 2 + _ + _ + _; omega)

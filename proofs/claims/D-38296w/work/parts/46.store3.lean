/-! THE STORE, third: append, emptied -/
set_option maxRecDepth 100000
/-- a bucket's shape -/
def wfK (cap : Nat) (b : Bkt) : Prop := 1 ≤ b.2.1.length ∧ b.1.length ≤ b.2.1.length * cap ∧ (b.2.1.length = 1 ∨ (b.2.1.length - 1) * cap < b.1.length) ∧ b.2.2 < 2 ^ 16 ∧ ∀ p ∈ b.2.1, p < 96
def uApp (cap k m : Nat) : Nat := if k = cap * m then 3 + uAdd m else 1
theorem uAdd4 {n : Nat} (h : n < 5) : uAdd n ≤ 1 := by
  unfold uAdd
  split
  · omega
  · rw [if_pos (by omega)]
    omega
theorem pg_sub {cap m : Nat} (h : 1 ≤ m) : (m - 1) * cap + cap = m * cap := by
  obtain ⟨k, rfl⟩ : ∃ k, m = k + 1 := ⟨m - 1, by omega⟩
  rw [Nat.add_sub_cancel, Nat.succ_mul]
theorem pgE_app {cap j : Nat} {es : List Nat} {e : Nat} (h1 : j * cap ≤ es.length) (h2 : es.length < j * cap + cap) : pgE cap (es ++ [e]) j = pgE cap es j ++ [e] := by
  unfold pgE
  rw [List.drop_append_of_le_length h1, List.take_append, List.take_of_length_le (by rw [List.length_drop]; omega), List.length_drop]
  congr 1
  exact List.take_of_length_le (by simp; omega)
theorem pgE_app0 {cap i : Nat} {es : List Nat} {e : Nat} (h : (i + 1) * cap ≤ es.length) : pgE cap (es ++ [e]) i = pgE cap es i := by
  unfold pgE
  rw [Nat.succ_mul] at h
  rw [List.drop_append_of_le_length (by omega), List.take_append_of_le_length (by rw [List.length_drop]; omega)]
theorem pg_last {m i cap n : Nat} (h1 : (m - 1) * cap ≤ n) (hi : i < m) (h2 : i ≠ m - 1) : (i + 1) * cap ≤ n := by
  have : (i + 1) * cap ≤ (m - 1) * cap := Nat.mul_le_mul_right _ (by omega)
  omega
theorem ctX2_append {l : Launch} {g : jG} (hG : GS l g) (bg : va_W) {q lv pt sz hs bl tk ch sd qb e cap lo up s1 s2 : Nat} {us us2 qs es : List Nat} {b : Bkt} {wb : va_W} {r9 : Row} (hq : (q, stO (cap, lo, up, s1, s2) lv pt sz hs bl tk) ∈ bg) (hh : (hs, hsO ch sd) ∈ bg) (hb : ALR g bg bl qs) (he : (e, enO r9) ∈ bg) (hlv : lv < 20) (hp : pt < 2 ^ 20) (hc : ch < 1024) (hs9 : sd < 10) (hk : r9.1 < 2 ^ 31) (hx : qs[ad lv pt (hsh ch sd r9.1)]? = some qb) (hB : isBk g cap qb es b.2.1 b.2.2 wb) (hes : es.length = b.1.length) (hel : ∀ y ∈ es, jElB g bg y) (hw : wfK cap b) (hc2 : 2 ≤ cap ∧ cap ≤ 4) (hl9 : es.length < 2 ^ 14) (hu : us.length < 96) (hu2 : ∀ k, k ∈ us2 ↔ (b.1.length = cap * b.2.1.length ∧ k = lowF us) ∨ k ∈ us) : KX2_append l g 8 (uApp cap b.1.length b.2.1.length) [.ref q, .ref e] bg [[(tk, tkO g us)], wb] (fun v wd => v = none ∧ ∃ w, wd = [[(tk, tkO g us2)], w] ∧ isBk g cap qb (es ++ [e]) (apB cap ch sd us b r9).2.1 (apB cap ch sd us b r9).2.2 w) := by
  obtain ⟨m, bb, hbq, h0, h⟩ := id hb
  obtain ⟨rs, pages, fl⟩ := b
  obtain ⟨hw1, hw2, hw3, hw4, hw5⟩ := hw
  dsimp only at hw1 hw2 hw3 hw4 hw5 hB hes hu2 ⊢
  have hw3 : (pages.length - 1) * cap ≤ rs.length := by
    rcases hw3 with h | h
    · rw [h]; simp
    · omega
  have hps := pg_sub (cap := cap) hw1
  have h1 := hsh_lt ch sd r9.1
  have hm9 := mrk_lt (hsh ch sd r9.1)
  have hpl : pages.length < 2 ^ 16 := by
    have : (pages.length - 1) * 2 ≤ (pages.length - 1) * cap := Nat.mul_le_mul_left _ hc2.1
    omega
  have hmul : cap * pages.length = pages.length * cap := Nat.mul_comm _ _
  refine Ctr.of [some (.ref q), some (.ref e), none, none] hG (by decide +kernel) rfl (Nat.le_of_ble_eq_true rfl) (fun Y hl hN0 o r hI => ?_)
  subst hl
  have hN : ∀ i, i < 4 → i < yN Y := fun i h => by rw [hN0]; exact h
  have stage2 : ∀ (us3 pages2 : List Nat) (w1 : va_W) (u9 : Nat), 1 ≤ pages2.length → (pages2.length - 1) * cap ≤ rs.length → rs.length < (pages2.length - 1) * cap + cap → isBk g cap qb es pages2 fl w1 → u9 + uAdd (rs.length - (pages2.length - 1) * cap) ≤ uApp cap rs.length pages.length → (∀ k, k ∈ us3 ↔ k ∈ us2) → pages2 = (apB cap ch sd us (rs, pages, fl) r9).2.1 → J g Y [[(tk, tkO g us3)], w1] u9 57 [some (.ref q), some (.ref e), some (.int (nI (hsh ch sd r9.1))), some (.ref qb)] [] := by
    intro us3 pages2 w1 u9 k1 k2 k3 hB2 ku ks kp
    rw [tkO_congr ks]
    rw [← kp] at r
    obtain ⟨cb, wc, ps, p, n, rl, wl, R, hperm, k4, k5, k6, k7, k8, k9⟩ := isBk_page hB2 (j := pages2.length - 1) (by omega)
    have hz : ∀ c, c ∈ jflat [[(qb, bkO cb fl)], wc, [(p, pgO n rl)], wl, R] → c ∈ w1 := fun c hc => hperm.mem_iff.mpr hc
    have hz1 : (qb, bkO cb fl) ∈ w1 := hz _ (by simp [jflat])
    have hz2 : (p, pgO n rl) ∈ w1 := hz _ (by simp [jflat])
    have hz3 : ALR g w1 cb ps := k7.r (fun c hc => hz c (by simp [jflat, hc]))
    refine j_ald_n o dX2_append_57 rfl rfl (q := 58) rfl ?_
    refine j_callV0 o (ctX4_last hG _ (jwl 1 rfl hz1) (hz3.mono (fun _ hc => jwl 1 rfl hc)) (by rw [k4]; exact k5) (jwl 1 rfl hz2)) dX2_append_58 q518 wdX4_last mdX4_last (jwm 1 rfl hz1) (by rfl) (by rfl) rfl (Nat.le_of_ble_eq_true rfl) (Nat.le_of_ble_eq_true rfl) (by omega) (Nat.le_of_ble_eq_true rfl) (q := 61) rfl (fun v wd hpost => ?_)
    obtain ⟨rfl, rfl⟩ := hpost
    dsimp only [List.cons_append, List.nil_append, Option.toList]
    refine j_gf o dX2_append_61 (jwm 1 rfl hz2) kcX5 1 (Nat.le_of_ble_eq_true rfl) q212 rfl (q := 64) rfl ?_
    refine j_ald_n o dX2_append_64 rfl rfl (q := 65) rfl ?_
    refine j_mv1 ?_
    refine j_spP _ (hperm) ?_
    dsimp only [List.cons_append, List.nil_append]
    refine j_mv3 ?_
    obtain ⟨m3, b3, hA3⟩ := id k8
    obtain ⟨t3, rfl, -⟩ := hA3.head
    have hk9 : (pgE cap es (pages2.length - 1)).length = rs.length - (pages2.length - 1) * cap := (by rw [pgE_len, hes]; omega)
    have hk8 : uAdd (pgE cap es (pages2.length - 1)).length = uAdd (rs.length - (pages2.length - 1) * cap) := (by rw [hk9])
    refine j_callV1 o (ctJ2_add hG _ k8 (fun y hy => (hel y (List.mem_of_mem_drop (List.mem_of_mem_take hy))).mono (fun _ => jmr)) (Or.inl ⟨_, jmr he, trivial⟩) (by rw [hk9]; omega)) dX2_append_65 q218 wdJ2_add mdJ2_add (jw 0 0 rfl rfl) (by rfl) (by rfl) rfl (Nat.le_of_ble_eq_true rfl) (Nat.le_of_ble_eq_true rfl) (by rw [hk9]; omega) (Nat.le_of_ble_eq_true rfl) (q := 68) rfl (fun v wd hpost => ?_)
    obtain ⟨rfl, wl2, rfl, hA4⟩ := hpost
    dsimp only [List.cons_append, List.nil_append, Option.toList]
    refine j_pop o dX2_append_68 rfl (q := 69) rfl ?_
    refine j_ald_n o dX2_append_69 rfl rfl (q := 70) rfl ?_
    refine j_dup o dX2_append_70 rfl (q := 71) rfl ?_
    refine j_gf o dX2_append_71 (jw 1 0 rfl rfl) kcX4 1 (Nat.le_of_ble_eq_true rfl) q186 rfl (q := 74) rfl ?_
    refine j_ild_n o dX2_append_74 rfl (q := 75) rfl ?_
    refine j_callSN0 o (ctX1_marks hG _ (by omega)) dX2_append_75 q581 wdX1_marks mdX1_marks rfl (Nat.le_of_ble_eq_true rfl) (Nat.le_of_ble_eq_true rfl) (by omega) (Nat.le_of_ble_eq_true rfl) (q := 78) rfl (fun v wd hpost => ?_)
    obtain ⟨rfl, rfl⟩ := hpost
    dsimp only [List.cons_append, List.nil_append, Option.toList]
    refine j_ior o dX2_append_78 (q := 79) rfl ?_
    refine j_topi o (nI (fl ||| mrk (hsh ch sd r9.1))) (nI_or _ _) ?_
    refine j_pf o dX2_append_79 1 0 rfl rfl kcX4 1 (Nat.le_of_ble_eq_true rfl) q186 rfl rfl rfl (Nat.le_of_ble_eq_true rfl) (q := 82) rfl ?_
    dsimp only [List.set]
    refine j_mv3 ?_
    refine j_mv3 ?_
    refine j_mv3 ?_
    refine j_mv1 ?_
    refine j_mgN [_, _, _, _, _] (fun w2 hw2 => ?_)
    first | dsimp only [List.cons_append, List.nil_append] | skip
    refine j_mv1 ?_
    exact j_vret o r dX2_append_82 [_, _] _ rfl (⟨rfl, w2, rfl, k9 _ (fl ||| mrk (hsh ch sd r9.1)) wl2 w2 (by rw [pgE_app (by omega) (by omega)]; exact hA4) (fun i hi hi2 => pgE_app0 (by rw [hes]; exact pg_last k2 hi hi2)) (by letI : DecidableEq (Nat × va_E) := fun _ _ => Classical.propDecidable _; exact List.perm_iff_count.mpr (fun a_ => by have e0_ := List.Perm.count_eq (hw2) a_; simp only [List.flatten_cons, List.flatten_nil, jflat, List.cons_append, List.nil_append, List.count_append, List.count_cons, List.append_nil, List.count_nil, List.flatten_append, bkO, pgO, stO, eO, tkO, eA] at e0_ ⊢; omega))⟩) (by omega)
  obtain ⟨cb, wc, ps, p, n, rl, wl, R, hperm, k4, k5, k6, k7, k8, k9⟩ := isBk_page hB (j := pages.length - 1) (by omega)
  have hz : ∀ c, c ∈ jflat [[(qb, bkO cb fl)], wc, [(p, pgO n rl)], wl, R] → c ∈ wb := fun c hc => hperm.mem_iff.mpr hc
  have hz1 : (qb, bkO cb fl) ∈ wb := hz _ (by simp [jflat])
  have hz2 : (p, pgO n rl) ∈ wb := hz _ (by simp [jflat])
  have hz3 : ALR g wb cb ps := k7.r (fun c hc => hz c (by simp [jflat, hc]))
  have hz4 : ALR g wb rl (pgE cap es (pages.length - 1)) := k8.r (fun c hc => hz c (by simp [jflat, hc]))
  obtain ⟨m5, b5, hz5, -⟩ := id hz4
  have hk9 : (pgE cap es (pages.length - 1)).length = rs.length - (pages.length - 1) * cap := (by rw [pgE_len, hes]; omega)
  refine j_ald_n o dX2_append_0 rfl rfl (q := 1) rfl ?_
  refine j_gf o dX2_append_1 (jb hq) kcX2 8 (Nat.le_of_ble_eq_true rfl) q307 rfl (q := 4) rfl ?_
  refine j_ald_n o dX2_append_4 rfl rfl (q := 5) rfl ?_
  refine j_gf o dX2_append_5 (jb he) kcX11 0 (Nat.le_of_ble_eq_true rfl) q448 rfl (q := 8) rfl ?_
  refine j_callV0 o (ctX3_of hG _ (jmr hh) hc hs9 hk) dX2_append_8 q492 wdX3_of mdX3_of (jb hh) (by rfl) (by rfl) rfl (Nat.le_of_ble_eq_true rfl) (Nat.le_of_ble_eq_true rfl) (by omega) (Nat.le_of_ble_eq_true rfl) (q := 11) rfl (fun v wd hpost => ?_)
  obtain ⟨rfl, rfl⟩ := hpost
  dsimp only [List.cons_append, List.nil_append, Option.toList]
  refine j_ist2 o dX2_append_11 rfl (hN 2 (Nat.le_of_ble_eq_true rfl)) (q := 12) rfl ?_
  refine j_ald_n o dX2_append_12 rfl rfl (q := 13) rfl ?_
  refine j_gf o dX2_append_13 (jb hq) kcX2 9 (Nat.le_of_ble_eq_true rfl) q309 rfl (q := 16) rfl ?_
  refine j_ald_n o dX2_append_16 rfl rfl (q := 17) rfl ?_
  refine j_ild_n o dX2_append_17 rfl (q := 18) rfl ?_
  refine j_callV0 o (ctX2_address hG _ (jmr hq) hlv (by omega) hp) dX2_append_18 q499 wdX2_address mdX2_address (jb hq) (by rfl) (by rfl) rfl (Nat.le_of_ble_eq_true rfl) (Nat.le_of_ble_eq_true rfl) (by omega) (Nat.le_of_ble_eq_true rfl) (q := 21) rfl (fun v wd hpost => ?_)
  obtain ⟨rfl, rfl⟩ := hpost
  dsimp only [List.cons_append, List.nil_append, Option.toList]
  refine j_callV0 o (ctJ2_get hG _ (hb.mono (fun _ => jmr)) hx) dX2_append_21 q418 wdJ2_get mdJ2_get (jb hbq) (by rfl) (by rfl) rfl (Nat.le_of_ble_eq_true rfl) (Nat.le_of_ble_eq_true rfl) (by omega) (Nat.le_of_ble_eq_true rfl) (q := 24) rfl (fun v wd hpost => ?_)
  obtain ⟨rfl, rfl⟩ := hpost
  dsimp only [List.cons_append, List.nil_append, Option.toList]
  refine j_castS (r := (RX4, TX4, 2)) o dX2_append_24 q174 (jwm 1 rfl hz1) (ci := 4) rfl (q := 27) rfl ?_
  refine j_ast3 o dX2_append_27 rfl rfl (hN 3 (Nat.le_of_ble_eq_true rfl)) (q := 28) rfl ?_
  refine j_ald_n o dX2_append_28 rfl rfl (q := 29) rfl ?_
  refine j_callV0 o (ctX4_last hG _ (jwl 1 rfl hz1) (hz3.mono (fun _ hc => jwl 1 rfl hc)) (by rw [k4]; exact k5) (jwl 1 rfl hz2)) dX2_append_29 q518 wdX4_last mdX4_last (jwm 1 rfl hz1) (by rfl) (by rfl) rfl (Nat.le_of_ble_eq_true rfl) (Nat.le_of_ble_eq_true rfl) (by omega) (Nat.le_of_ble_eq_true rfl) (q := 32) rfl (fun v wd hpost => ?_)
  obtain ⟨rfl, rfl⟩ := hpost
  dsimp only [List.cons_append, List.nil_append, Option.toList]
  refine j_gf o dX2_append_32 (jwm 1 rfl hz2) kcX5 1 (Nat.le_of_ble_eq_true rfl) q212 rfl (q := 35) rfl ?_
  refine j_callV0 o (ctJ2_size hG _ (jwl 1 rfl hz5)) dX2_append_35 q417 wdJ2_size mdJ2_size (jwm 1 rfl hz5) (by rfl) (by rfl) rfl (Nat.le_of_ble_eq_true rfl) (Nat.le_of_ble_eq_true rfl) (by omega) (Nat.le_of_ble_eq_true rfl) (q := 38) rfl (fun v wd hpost => ?_)
  obtain ⟨rfl, rfl⟩ := hpost
  dsimp only [List.cons_append, List.nil_append, Option.toList]
  rw [hk9]
  refine j_ald_n o dX2_append_38 rfl rfl (q := 39) rfl ?_
  refine j_gf o dX2_append_39 (jb hq) kcX2 0 (Nat.le_of_ble_eq_true rfl) q289 rfl (q := 42) rfl ?_
  refine j_icne o 57 dX2_append_42 (by decide) (q := 45) rfl (fun c => ?_) (fun c => ?_)
  · have c : ¬ rs.length = cap * pages.length := (fun e => c (by congr 1; omega))
    refine stage2 us pages wb 0 hw1 hw3 (by omega) hB ?_ (fun k => ?_) ?_
    · have := uAdd4 (n := rs.length - (pages.length - 1) * cap) (by omega)
      unfold uApp
      rw [if_neg c]
      omega
    · rw [hu2]
      constructor
      · exact Or.inr
      · rintro (h | h)
        · exact absurd h.1 c
        · exact h
    · show pages = if _ then _ else _
      rw [if_neg c]
  · have c : rs.length = cap * pages.length := (by have := (nI_eq (by omega) (by omega)).mp c; omega)
    have hU : uApp cap rs.length pages.length = 3 + uAdd pages.length := (by unfold uApp; rw [if_pos c])
    obtain ⟨cb2, wc2, ps2, R2, hperm2, j1, j2, j3, j4⟩ := isBk_more hB
    have hy : (qb, bkO cb2 fl) ∈ wb := hperm2.mem_iff.mpr (by simp [jflat])
    refine j_ald_n o dX2_append_45 rfl rfl (q := 46) rfl ?_
    refine j_gf o dX2_append_46 (jwm 1 rfl hy) kcX4 0 (Nat.le_of_ble_eq_true rfl) q183 rfl (q := 49) rfl ?_
    refine j_ald_n o dX2_append_49 rfl rfl (q := 50) rfl ?_
    refine j_callV1 o (ctX2_take hG _ (jmr hq) hu (us2 := us2) (fun k => by rw [hu2, and_iff_right c])) dX2_append_50 q194 wdX2_take mdX2_take (jb hq) (by rfl) (by rfl) rfl (Nat.le_of_ble_eq_true rfl) (Nat.le_of_ble_eq_true rfl) (by omega) (Nat.le_of_ble_eq_true rfl) (q := 53) rfl (fun v wd hpost => ?_)
    obtain ⟨p2, wp, rfl, rfl, hP⟩ := hpost
    dsimp only [List.cons_append, List.nil_append, Option.toList]
    refine j_mv2 ?_
    refine j_spP _ (hperm2) ?_
    dsimp only [List.cons_append, List.nil_append]
    refine j_mv1 ?_
    have hP9 := hP
    obtain ⟨rl2, wr2, rfl, -⟩ := hP9
    obtain ⟨m6, b6, hA6⟩ := id j2
    obtain ⟨t6, rfl, -⟩ := hA6.head
    refine j_callV1 o (ctJ2_add hG _ j2 (fun y hy => by obtain ⟨n5, rl5, h5⟩ := j3 y hy; exact Or.inl ⟨_, jwl 1 rfl h5, trivial⟩) (Or.inl ⟨_, jwl 3 rfl List.mem_cons_self, trivial⟩) (by omega)) dX2_append_53 q218 wdJ2_add mdJ2_add (jw 0 0 rfl rfl) (by rfl) (by rfl) rfl (Nat.le_of_ble_eq_true rfl) (Nat.le_of_ble_eq_true rfl) (by rw [j1, hU]; omega) (Nat.le_of_ble_eq_true rfl) (q := 56) rfl (fun v wd hpost => ?_)
    obtain ⟨rfl, wc3, rfl, hA7⟩ := hpost
    dsimp only [List.cons_append, List.nil_append, Option.toList]
    refine j_pop o dX2_append_56 rfl (q := 57) rfl ?_
    refine j_mv1 ?_
    refine j_mv4 ?_
    refine j_mgN [_, _, _, _] (fun wn hwn => ?_)
    first | dsimp only [List.cons_append, List.nil_append] | skip
    refine j_mv1 ?_
    refine stage2 us2 (pages ++ [lowF us]) wn _ (by simp) (by simp; omega) (by simp; omega) (j4 _ _ _ _ wn (by omega) hA7 hP hwn) ?_ (fun k => Iff.rfl) ?_
    · have e : rs.length - ((pages ++ [lowF us]).length - 1) * cap = 0 := (by simp; omega)
      rw [e, hU, j1]
      have : uAdd 0 = 1 := rfl
      omega
    · show _ = if _ then _ else _
      rw [if_pos c]
theorem ctX2_emptied {l : Launch} {g : jG} (hG : GS l g) (bg : va_W) {q lv pt sz hs bl tk qb cap fl : Nat} {F : K5} {us es pages : List Nat} {wb : va_W} (hq : (q, stO F lv pt sz hs bl tk) ∈ bg) (hB : isBk g cap qb es pages fl wb) (hel : ∀ y ∈ es, jElB g bg y) (hm : 1 ≤ pages.length) (hk : es.length ≤ pages.length * cap) (hm9 : pages.length < 2 ^ 16) (hl9 : es.length < 2 ^ 15) (hp9 : ∀ p ∈ pages, p < 96) : KX2_emptied l g 8 (uBall cap es.length pages.length) [.ref q, .ref qb] bg [[(tk, tkO g us)], wb] (fun v wd => ∃ a wa w, v = some (.ref a) ∧ wd = [[(tk, tkO g (us.filter (fun k => decide (k ∉ pages.drop 1))))], w, wa] ∧ AL g a es wa ∧ isBk g cap qb [] (pages.take 1) 0 w) := by
  refine Ctr.of [some (.ref q), some (.ref qb), none] hG (by decide +kernel) rfl (Nat.le_of_ble_eq_true rfl) (fun Y hl hN0 o r hI => ?_)
  subst hl
  have hN : ∀ i, i < 3 → i < yN Y := fun i h => by rw [hN0]; exact h
  have loop : ∀ (d : Nat) (pg2 : List Nat) (w : va_W) (a : Nat) (wa : va_W) (u9 : Nat), pg2.length = d + 1 → pg2 ++ pages.drop (d + 1) = pages → isBk g cap qb es pg2 fl w → AL g a es wa → u9 ≤ uBall cap es.length pages.length → J g Y [[(tk, tkO g (us.filter (fun k => decide (k ∉ pages.drop (d + 1)))))], w, wa] u9 5 [some (.ref q), some (.ref qb), some (.ref a)] [] := by
    intro d
    induction d with
    | zero =>
      intro pg2 w a wa u9 h1 h2 hB2 hA hu
      obtain ⟨cb, wc, ps, p, n, rl, wl, R, hperm, k4, k5, k6, k7, k8, k9⟩ := isBk_page hB2 (j := 0) (by omega)
      have hz : ∀ c, c ∈ jflat [[(qb, bkO cb fl)], wc, [(p, pgO n rl)], wl, R] → c ∈ w := fun c hc => hperm.mem_iff.mpr hc
      have hz1 : (qb, bkO cb fl) ∈ w := hz _ (by simp [jflat])
      have hz2 : (p, pgO n rl) ∈ w := hz _ (by simp [jflat])
      have hz3 : ALR g w cb ps := k7.r (fun c hc => hz c (by simp [jflat, hc]))
      obtain ⟨m5, b5, hz5, -⟩ := id hz3
      refine j_ald_n o dX2_emptied_5 rfl rfl (q := 6) rfl ?_
      refine j_gf o dX2_emptied_6 (jwm 1 rfl hz1) kcX4 0 (Nat.le_of_ble_eq_true rfl) q183 rfl (q := 9) rfl ?_
      refine j_callV0 o (ctJ2_size hG _ (jwl 1 rfl hz5)) dX2_emptied_9 q417 wdJ2_size mdJ2_size (jwm 1 rfl hz5) (by rfl) (by rfl) rfl (Nat.le_of_ble_eq_true rfl) (Nat.le_of_ble_eq_true rfl) (by omega) (Nat.le_of_ble_eq_true rfl) (q := 12) rfl (fun v wd hpost => ?_)
      obtain ⟨rfl, rfl⟩ := hpost
      dsimp only [List.cons_append, List.nil_append, Option.toList]
      rw [k4, h1]
      refine j_iconst o (nI 1) dX2_emptied_12 (by decide) (q := 13) rfl ?_
      refine j_icleT o 42 dX2_emptied_13 (by decide) (nI_le (by omega) (by omega)) ?_
      refine j_ald_n o dX2_emptied_42 rfl rfl (q := 43) rfl ?_
      refine j_callV0 o (ctX4_last hG _ (jwl 1 rfl hz1) (hz3.mono (fun _ hc => jwl 1 rfl hc)) (by rw [k4, h1]; exact k5) (jwl 1 rfl hz2)) dX2_emptied_43 q518 wdX4_last mdX4_last (jwm 1 rfl hz1) (by rfl) (by rfl) rfl (Nat.le_of_ble_eq_true rfl) (Nat.le_of_ble_eq_true rfl) (by omega) (Nat.le_of_ble_eq_true rfl) (q := 46) rfl (fun v wd hpost => ?_)
      obtain ⟨rfl, rfl⟩ := hpost
      dsimp only [List.cons_append, List.nil_append, Option.toList]
      refine j_gf o dX2_emptied_46 (jwm 1 rfl hz2) kcX5 1 (Nat.le_of_ble_eq_true rfl) q212 rfl (q := 49) rfl ?_
      refine j_mv1 ?_
      refine j_spP _ (hperm) ?_
      dsimp only [List.cons_append, List.nil_append]
      refine j_mv3 ?_
      obtain ⟨m3, b3, hA3⟩ := id k8
      obtain ⟨t3, rfl, -⟩ := hA3.head
      refine j_callV1 o (ctJ2_clear hG _ k8) dX2_emptied_49 q166 wdJ2_clear mdJ2_clear (jw 0 0 rfl rfl) (by rfl) (by rfl) rfl (Nat.le_of_ble_eq_true rfl) (Nat.le_of_ble_eq_true rfl) (by omega) (Nat.le_of_ble_eq_true rfl) (q := 52) rfl (fun v wd hpost => ?_)
      obtain ⟨rfl, wl2, rfl, hA4⟩ := hpost
      dsimp only [List.cons_append, List.nil_append, Option.toList]
      refine j_ald_n o dX2_emptied_52 rfl rfl (q := 53) rfl ?_
      refine j_iconst o (nI 0) dX2_emptied_53 (by decide) (q := 54) rfl ?_
      refine j_pf o dX2_emptied_54 1 0 rfl rfl kcX4 1 (Nat.le_of_ble_eq_true rfl) q186 rfl rfl rfl (Nat.le_of_ble_eq_true rfl) (q := 57) rfl ?_
      dsimp only [List.set]
      refine j_mv4 ?_
      refine j_mv1 ?_
      refine j_mgN [_, _, _, _, _] (fun w2 hw2 => ?_)
      first | dsimp only [List.cons_append, List.nil_append] | skip
      refine j_mv1 ?_
      refine j_ald_n o dX2_emptied_57 rfl rfl (q := 58) rfl ?_
      have e1 : pg2 = pages.take 1 := (by
        have : (pg2 ++ pages.drop 1).take 1 = pages.take 1 := by rw [h2]
        rw [List.take_append_of_le_length (by omega), List.take_of_length_le (by omega)] at this
        exact this)
      exact j_aret o r dX2_emptied_58 (by first | exact Or.inl ⟨_, rfl⟩ | exact Or.inr ⟨_, rfl⟩) rfl [_, _, _] _ rfl (⟨a, wa, w2, rfl, rfl, hA, by rw [← e1]; exact k9 [] 0 wl2 w2 (by simpa [pgE] using hA4) (fun i hi hi2 => by omega) (by letI : DecidableEq (Nat × va_E) := fun _ _ => Classical.propDecidable _; exact List.perm_iff_count.mpr (fun a_ => by have e0_ := List.Perm.count_eq (hw2) a_; simp only [List.flatten_cons, List.flatten_nil, jflat, List.cons_append, List.nil_append, List.count_append, List.count_cons, List.append_nil, List.count_nil, List.flatten_append, bkO, pgO, stO, eO, tkO, eA] at e0_ ⊢; omega))⟩) (by omega)
    | succ d ih =>
      intro pg2 w a wa u9 h1 h2 hB2 hA hu
      have e3 : ∃ pg0 n, pg2 = pg0 ++ [n] := ⟨pg2.dropLast, pg2.getLast (by intro e; rw [e] at h1; simp at h1), (List.dropLast_concat_getLast _).symm⟩
      obtain ⟨pg0, n, rfl⟩ := e3
      simp at h1
      obtain ⟨cb, wc, ps, p, wp, R, hperm, k4, k5, ⟨rl, wl, rfl, k6⟩, k7⟩ := isBk_pop hB2
      have hz : ∀ c, c ∈ jflat [[(qb, bkO cb fl)], wc, (p, pgO n rl) :: wl, R] → c ∈ w := fun c hc => hperm.mem_iff.mpr hc
      have hz1 : (qb, bkO cb fl) ∈ w := hz _ (by simp [jflat])
      have hz2 : (p, pgO n rl) ∈ w := hz _ (by simp [jflat])
      have hz3 : ALR g w cb (ps ++ [p]) := k5.r (fun c hc => hz c (by simp [jflat, hc]))
      obtain ⟨m5, b5, hz5, -⟩ := id hz3
      have hpl : (ps ++ [p]).length = d + 2 := (by simp; omega)
      have hpg : pg0.length < 2 ^ 16 := (by have := congrArg List.length h2; simp at this; omega)
      have hn9 : n < 96 := hp9 n (by rw [← h2]; simp)
      have hd : pages.drop (d + 1) = n :: pages.drop (d + 2) := (by
        have e4 : (pg0 ++ [n] ++ pages.drop (d + 1 + 1)).drop (d + 1) = pages.drop (d + 1) := by rw [h2]
        rw [← e4, List.append_assoc, List.drop_append_of_le_length (by omega), List.drop_of_length_le (by omega)]
        simp)
      refine j_ald_n o dX2_emptied_5 rfl rfl (q := 6) rfl ?_
      refine j_gf o dX2_emptied_6 (jwm 1 rfl hz1) kcX4 0 (Nat.le_of_ble_eq_true rfl) q183 rfl (q := 9) rfl ?_
      refine j_callV0 o (ctJ2_size hG _ (jwl 1 rfl hz5)) dX2_emptied_9 q417 wdJ2_size mdJ2_size (jwm 1 rfl hz5) (by rfl) (by rfl) rfl (Nat.le_of_ble_eq_true rfl) (Nat.le_of_ble_eq_true rfl) (by omega) (Nat.le_of_ble_eq_true rfl) (q := 12) rfl (fun v wd hpost => ?_)
      obtain ⟨rfl, rfl⟩ := hpost
      dsimp only [List.cons_append, List.nil_append, Option.toList]
      rw [hpl]
      refine j_iconst o (nI 1) dX2_emptied_12 (by decide) (q := 13) rfl ?_
      refine j_icleF o (t := 42) dX2_emptied_13 (by decide) (q := 16) rfl (by rw [nI_leI (by omega) (by omega)]; omega) ?_
      refine j_ald_n o dX2_emptied_16 rfl rfl (q := 17) rfl ?_
      refine j_ald_n o dX2_emptied_17 rfl rfl (q := 18) rfl ?_
      refine j_gf o dX2_emptied_18 (jwm 1 rfl hz1) kcX4 0 (Nat.le_of_ble_eq_true rfl) q183 rfl (q := 21) rfl ?_
      refine j_ald_n o dX2_emptied_21 rfl rfl (q := 22) rfl ?_
      refine j_gf o dX2_emptied_22 (jwm 1 rfl hz1) kcX4 0 (Nat.le_of_ble_eq_true rfl) q183 rfl (q := 25) rfl ?_
      refine j_callV0 o (ctJ2_size hG _ (jwl 1 rfl hz5)) dX2_emptied_25 q417 wdJ2_size mdJ2_size (jwm 1 rfl hz5) (by rfl) (by rfl) rfl (Nat.le_of_ble_eq_true rfl) (Nat.le_of_ble_eq_true rfl) (by omega) (Nat.le_of_ble_eq_true rfl) (q := 28) rfl (fun v wd hpost => ?_)
      obtain ⟨rfl, rfl⟩ := hpost
      dsimp only [List.cons_append, List.nil_append, Option.toList]
      rw [hpl]
      refine j_iconst o (nI 1) dX2_emptied_28 (by decide) (q := 29) rfl ?_
      refine j_isub o dX2_emptied_29 (q := 30) rfl ?_
      refine j_topi o (nI ps.length) ((by rw [pk_sub (by omega)]; congr 1; omega)) ?_
      refine j_mv1 ?_
      refine j_spP _ (hperm) ?_
      dsimp only [List.cons_append, List.nil_append]
      refine j_mv1 ?_
      obtain ⟨m3, b3, hA3⟩ := id k5
      obtain ⟨t3, rfl, -⟩ := hA3.head
      refine j_callV1 o (ctJ2_remove hG _ rfl k5) dX2_emptied_30 q534 wdJ2_remove mdJ2_remove (jw 0 0 rfl rfl) (by rfl) (by rfl) rfl (Nat.le_of_ble_eq_true rfl) (Nat.le_of_ble_eq_true rfl) (by omega) (Nat.le_of_ble_eq_true rfl) (q := 33) rfl (fun v wd hpost => ?_)
      obtain ⟨rfl, wc2, rfl, hA4⟩ := hpost
      dsimp only [List.cons_append, List.nil_append, Option.toList]
      refine j_castS (r := (RX5, TX5, 2)) o dX2_emptied_33 q198 (jw 2 0 rfl rfl) (ci := 5) rfl (q := 36) rfl ?_
      refine j_mv4 ?_
      refine j_callV1 o (ctX2_free hG _ (jmr hq) (jwl 2 rfl List.mem_cons_self) hn9 (us2 := us.filter (fun k => decide (k ∉ pages.drop (d + 1)))) (fun k => by rw [hd]; simp only [List.mem_filter, List.mem_cons, decide_eq_true_eq, not_or]; constructor; exact fun h => ⟨h.2.1, h.1, h.2.2⟩; exact fun h => ⟨h.2.1, h.1, h.2.2⟩)) dX2_emptied_36 q547 wdX2_free mdX2_free (jb hq) (by rfl) (by rfl) rfl (Nat.le_of_ble_eq_true rfl) (Nat.le_of_ble_eq_true rfl) (by omega) (Nat.le_of_ble_eq_true rfl) (q := 39) rfl (fun v wd hpost => ?_)
      obtain ⟨rfl, rfl⟩ := hpost
      dsimp only [List.cons_append, List.nil_append, Option.toList]
      refine j_goto o 5 dX2_emptied_39 (by decide) ?_
      refine j_mv3 ?_
      refine j_drop ?_
      refine j_mv3 ?_
      refine j_mv2 ?_
      refine j_mv3 ?_
      refine j_mgN [_, _, _] (fun w2 hw2 => ?_)
      first | dsimp only [List.cons_append, List.nil_append] | skip
      refine j_mv1 ?_
      exact ih pg0 w2 a wa u9 (by omega) (by rw [hd]; simpa using h2) (k7 wc2 w2 hA4 hw2) hA hu
  obtain ⟨cb, ps, hb1, hb2, hb3⟩ := hB.r (S := wb) (fun _ h => h)
  refine j_ald_n o dX2_emptied_0 rfl rfl (q := 1) rfl ?_
  refine j_callV0 o (ctX4_all hG _ ((hB.r (S := wb) (fun _ h => h)).mono (fun _ hc => jwl 1 rfl hc)) (jElB_l hel) hk hl9) dX2_emptied_1 q563 wdX4_all mdX4_all (jwm 1 rfl hb1) (by rfl) (by rfl) rfl (Nat.le_of_ble_eq_true rfl) (Nat.le_of_ble_eq_true rfl) (by omega) (Nat.le_of_ble_eq_true rfl) (q := 4) rfl (fun v wd hpost => ?_)
  obtain ⟨a, wa, rfl, rfl, hA⟩ := hpost
  dsimp only [List.cons_append, List.nil_append, Option.toList]
  refine j_ast2 o dX2_emptied_4 rfl rfl (hN 2 (Nat.le_of_ble_eq_true rfl)) (q := 5) rfl ?_
  refine j_mv1 ?_
  refine j_mv2 ?_
  refine j_mv1 ?_
  have e0 : pages.drop (pages.length - 1 + 1) = [] := List.drop_of_length_le (by omega)
  have e : tkO g us = tkO g (us.filter (fun k => decide (k ∉ pages.drop (pages.length - 1 + 1)))) := tkO_congr (fun k => by rw [e0]; simp)
  rw [e]
  exact loop (pages.length - 1) pages wb a wa _ (by omega) (by rw [e0, List.append_nil]) hB hA (by omega)

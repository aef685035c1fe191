/-! THE STORE, fifth: split -/
set_option maxRecDepth 100000
theorem bse_up {n : Nat} (hn : 2 ≤ n) : (ptr n + 1 = bse n → lvl (n + 1) = lvl n + 1 ∧ ptr (n + 1) = 0) ∧ (ptr n + 1 ≠ bse n → lvl (n + 1) = lvl n ∧ ptr (n + 1) = ptr n + 1) := by
  have h1 := bse_ptr (n := n) (by omega)
  have h2 := lt_bse (n := n)
  have hl := log2_ge hn
  constructor
  · intro h
    have hn1 : n + 1 = 2 ^ (Nat.log2 n + 1) := by
      rw [Nat.pow_succ]
      show n + 1 = bse n * 2
      omega
    have e : Nat.log2 (n + 1) = Nat.log2 n + 1 := by rw [hn1]; exact Nat.log2_two_pow
    refine ⟨by unfold lvl; rw [e]; omega, ?_⟩
    unfold ptr bse
    rw [e, ← hn1]
    omega
  · intro h
    have h3 := ptr_lt (n := n) (by omega)
    have e : Nat.log2 (n + 1) = Nat.log2 n := by
      rw [Nat.log2_eq_iff (by omega)]
      refine ⟨?_, ?_⟩
      · show bse n ≤ n + 1
        omega
      · rw [Nat.pow_succ]
        show n + 1 < bse n * 2
        omega
    refine ⟨by unfold lvl; rw [e], ?_⟩
    have e2 : bse (n + 1) = bse n := by unfold bse; rw [e]
    show n + 1 - bse (n + 1) = n - bse n + 1
    rw [e2]
    omega
theorem isSt_cell {g : jG} {hs q : Nat} {F : K5} {lv pt sz : Nat} {B : List Bkt} {ess : List (List Nat)} {w : va_W} (h : isSt g hs q F lv pt sz B ess w) : ∃ bl tk R, w.Perm (jflat [[(q, stO F lv pt sz hs bl tk)], R]) ∧ ∀ hs2 F2 lv2 pt2 sz2 w2, F2.1 = F.1 → w2.Perm (jflat [[(q, stO F2 lv2 pt2 sz2 hs2 bl tk)], R]) → isSt g hs2 q F2 lv2 pt2 sz2 B ess w2 := by
  obtain ⟨bl, tk, qs, wbl, wsb, hp, hA, hB⟩ := h
  refine ⟨bl, tk, _, hp, fun hs2 F2 lv2 pt2 sz2 w2 e hp2 => ⟨bl, tk, qs, wbl, wsb, hp2, hA, by rw [e]; exact hB⟩⟩
theorem isBk_cell {g : jG} {cap qb fl : Nat} {es pages : List Nat} {w : va_W} (h : isBk g cap qb es pages fl w) : ∃ ch R, w.Perm (jflat [[(qb, bkO ch fl)], R]) ∧ ∀ fl2 w2, w2.Perm (jflat [[(qb, bkO ch fl2)], R]) → isBk g cap qb es pages fl2 w2 := by
  obtain ⟨ch, wc, ps, wps, hp, hC, hP⟩ := h
  exact ⟨ch, _, hp, fun fl2 w2 hp2 => ⟨ch, wc, ps, wps, hp2, hC, hP⟩⟩
theorem snoc_get {α : Type} {xs : List α} {x y : α} {i : Nat} (h : (xs ++ [x])[i]? = some y) : (i < xs.length ∧ xs[i]? = some y) ∨ (i = xs.length ∧ y = x) := by
  rcases Nat.lt_or_ge i xs.length with hi | hi
  · rw [List.getElem?_append_left hi] at h
    exact Or.inl ⟨hi, h⟩
  · have := get_lt h
    simp at this
    have e : i = xs.length := by omega
    subst e
    rw [List.getElem?_append_right (by omega), Nat.sub_self] at h
    cases h
    exact Or.inr ⟨rfl, rfl⟩
theorem isBks_push {g : jG} {cap qb : Nat} {qs es : List Nat} {B : List Bkt} {b : Bkt} {ess : List (List Nat)} {wsb : List va_W} {w : va_W} (h : isBks g cap qs B ess wsb) (hb : isBk g cap qb es b.2.1 b.2.2 w) : isBks g cap (qs ++ [qb]) (B ++ [b]) (ess ++ [es]) (wsb ++ [w]) := by
  obtain ⟨h1, h2, h3, h4⟩ := h
  refine ⟨by simp [h1], by simp [h2], by simp [h3], fun i qi bi ei wi a1 a2 a3 a4 => ?_⟩
  rcases snoc_get a1 with ⟨i1, a1⟩ | ⟨i1, rfl⟩
  · rw [List.getElem?_append_left (by omega)] at a2 a3 a4
    exact h4 i qi bi ei wi a1 a2 a3 a4
  · subst i1
    rw [List.getElem?_append_right (by omega), h1, Nat.sub_self] at a2
    rw [List.getElem?_append_right (by omega), h1, ← h2, Nat.sub_self] at a3
    rw [List.getElem?_append_right (by omega), h1, ← h3, Nat.sub_self] at a4
    cases a2; cases a3; cases a4
    exact hb
theorem entB_push {S : va_W} {ess : List (List Nat)} {B : List Bkt} {es : List Nat} {b : Bkt} (h : entB S ess B) (hb : entR S es b.1) : entB S (ess ++ [es]) (B ++ [b]) := by
  refine ⟨by simp [h.1], fun i e2 b2 a1 a2 => ?_⟩
  rcases snoc_get a1 with ⟨i1, a1⟩ | ⟨i1, rfl⟩
  · rw [List.getElem?_append_left (by rw [← h.1]; exact i1)] at a2
    exact h.2 i e2 b2 a1 a2
  · subst i1
    rw [List.getElem?_append_right (by rw [h.1]; omega), h.1, Nat.sub_self] at a2
    cases a2
    exact hb
theorem entR_nil {S : va_W} : entR S [] [] := ⟨rfl, fun i e r h => by simp at h⟩
theorem nd_take {xs : List Nat} (h : xs.Nodup) {k : Nat} (h1 : k ∈ xs.take 1) : k ∉ xs.drop 1 := by
  cases xs with
  | nil => simp at h1
  | cons x xs =>
    simp at h1
    subst h1
    simpa using (List.nodup_cons.mp h).1
theorem usd_em {B : List Bkt} {i k : Nat} (h : ndB B) (hi : i < B.length) : k ∈ usd (B.set i (emB (bAt B i))) ↔ k ∈ (usd B).filter (fun k => decide (k ∉ (bAt B i).2.1.drop 1)) := by
  have hB := bAt_ex hi
  have h0 := h.1 _ (List.mem_of_getElem? hB)
  rw [mem_usd_set hi, List.mem_filter, decide_eq_true_eq, mem_usd]
  constructor
  · rintro (h1 | ⟨j, b, hj, h1, h2⟩)
    · exact ⟨⟨i, _, hB, List.mem_of_mem_take h1⟩, nd_take h0 h1⟩
    · refine ⟨⟨j, b, h1, h2⟩, fun h3 => hj (h.2 j i b _ k h1 hB h2 (List.mem_of_mem_drop h3))⟩
  · rintro ⟨⟨j, b, h1, h2⟩, h3⟩
    by_cases hj : j = i
    · subst hj
      rw [hB] at h1
      cases h1
      left
      have := List.take_append_drop 1 (bAt B j).2.1
      rw [← this] at h2
      rcases List.mem_append.mp h2 with h4 | h4
      · exact h4
      · exact absurd h4 h3
    · exact Or.inr ⟨j, b, hj, h1, h2⟩
theorem wfK.em {cap : Nat} {b : Bkt} (h : wfK cap b) : wfK cap (emB b) := by
  obtain ⟨h1, h2, h3, h4, h5⟩ := h
  have e : (b.2.1.take 1).length = 1 := by rw [List.length_take]; omega
  exact ⟨by show 1 ≤ _; rw [emB, e]; omega, by simp [emB], Or.inl e, by show 0 < 2 ^ 16; omega, fun p hp => h5 p (List.mem_of_mem_take hp)⟩
theorem fits.em {cap more i : Nat} {B : List Bkt} (h : fits cap B more) (hi : i < B.length) : fits cap (B.set i (emB (bAt B i))) ((bAt B i).1.length + more) := by
  obtain ⟨h1, h2, h3, h4, h5, h6, h7⟩ := h
  have hB := bAt_ex hi
  have hr := rws_set (b := emB (bAt B i)) hi
  have e : (emB (bAt B i)).1.length = 0 := rfl
  refine ⟨h1, h2, by simpa using h3, by simpa using h4, by omega, h6.set (h6.at hi).em, h7.set ((h7.1 _ (List.mem_of_getElem? hB)).sublist (List.take_sublist _ _)) (fun j c k hj hc hk hk2 => hj (h7.2 j i c _ k hc hB hk2 (List.mem_of_mem_take hk)))⟩
theorem rws_snoc {B : List Bkt} {b : Bkt} : rws (B ++ [b]) = rws B + b.1.length := by simp [rws]
theorem usd_snoc {B : List Bkt} {b : Bkt} : usd (B ++ [b]) = usd B ++ b.2.1 := by simp [usd]
theorem fits.grown {cap more : Nat} {B : List Bkt} (h : fits cap B more) (h9 : B.length < 60) : fits cap (grw B) more := by
  have hu := h.us
  obtain ⟨h1, h2, h3, h4, h5, h6, h7⟩ := h
  obtain ⟨l1, l2, l3⟩ := lowF_spec hu
  refine ⟨h1, h2, by simp [grw]; omega, by simp [grw]; omega, by rw [grw, rws_snoc]; simpa using h5, fun b hb => ?_, fun b hb => ?_, fun i j b c k a1 a2 a3 a4 => ?_⟩
  · rcases List.mem_append.mp hb with hb | hb
    · exact h6 b hb
    · rw [List.mem_singleton.mp hb]
      exact ⟨by simp, by simp, Or.inl rfl, by show 0 < 2 ^ 16; omega, fun p hp => by rw [List.mem_singleton.mp hp]; exact l1⟩
  · rcases List.mem_append.mp hb with hb | hb
    · exact h7.1 b hb
    · rw [List.mem_singleton.mp hb]
      simp
  · rcases snoc_get a1 with ⟨i1, a1⟩ | ⟨i1, rfl⟩ <;> rcases snoc_get a2 with ⟨i2, a2⟩ | ⟨i2, rfl⟩
    · exact h7.2 i j b c k a1 a2 a3 a4
    · exact absurd (mem_usd.mpr ⟨i, b, a1, List.mem_singleton.mp a4 ▸ a3⟩) l2
    · exact absurd (mem_usd.mpr ⟨j, c, a2, List.mem_singleton.mp a3 ▸ a4⟩) l2
    · omega
theorem isBks.el {g : jG} {cap y : Nat} {qs : List Nat} {B : List Bkt} {ess : List (List Nat)} {wsb : List va_W} (h : isBks g cap qs B ess wsb) (hy : y ∈ qs) : ∃ cb fl, (y, bkO cb fl) ∈ wsb.flatten := by
  obtain ⟨j, hj⟩ := List.getElem?_of_mem hy
  have hjl := get_lt hj
  have h1 := h.1
  obtain ⟨ej, hej⟩ := get_ex (xs := ess) (i := j) (by rw [h.2.1]; omega)
  obtain ⟨cb, ps, hm, -⟩ := h.r (S := wsb.flatten) (fun _ h => h) j y _ ej hj (bAt_ex (by omega)) hej
  exact ⟨cb, _, hm⟩
def uSpl (cap ch sd : Nat) (B : List Bkt) : Nat := uBall cap (bAt B (ptr B.length)).1.length (bAt B (ptr B.length)).2.1.length + (5 + uAdd B.length) + uApS cap ch sd (grw (B.set (ptr B.length) (emB (bAt B (ptr B.length))))) (bAt B (ptr B.length)).1
theorem ctX2_split {l : Launch} {g : jG} (hG : GS l g) (bg : va_W) {q sz hs ch sd cap lo up s1 s2 : Nat} {B : List Bkt} {ess : List (List Nat)} {w : va_W} (hS : isSt g hs q (cap, lo, up, s1, s2) (lvl B.length) (ptr B.length) sz B ess w) (hE : entB bg ess B) (hh : (hs, hsO ch sd) ∈ bg) (hf : fits cap B 0) (h9 : B.length < 60) (hc : ch < 1024) (hs9 : sd < 10) (hk : ∀ r ∈ (bAt B (ptr B.length)).1, r.1 < 2 ^ 31) : KX2_split l g 10 (uSpl cap ch sd B) [.ref q] bg [w] (fun v wd => v = none ∧ ∃ ess2 w2, wd = [w2] ∧ isSt g hs q (cap, lo, up, s1 + 1, s2) (lvl (B.length + 1)) (ptr (B.length + 1)) sz (splB cap ch sd B) ess2 w2 ∧ ∀ S, entB S ess B → entB S ess2 (splB cap ch sd B)) := by
  have f1 := hf.1
  have f2 := hf.2.1
  have f3 := hf.2.2.1
  have f5 := hf.2.2.2.2.1
  have hwf := hf.2.2.2.2.2.1
  have hnd := hf.2.2.2.2.2.2
  have hU : uSpl cap ch sd B = uBall cap (bAt B (ptr B.length)).1.length (bAt B (ptr B.length)).2.1.length + (5 + uAdd B.length) + uApS cap ch sd (grw (B.set (ptr B.length) (emB (bAt B (ptr B.length))))) (bAt B (ptr B.length)).1 := rfl
  have hi : ptr B.length < B.length := (by have := bse_ptr (n := B.length) (by omega); have := bse_pos B.length; omega)
  have hrw := rws_at hi
  have hlv := lvl_lt (n := B.length) (by omega)
  have hpl := ptr_le (n := B.length)
  obtain ⟨k1, k2, k3, k4, k5⟩ := hwf.at hi
  have hpg : (bAt B (ptr B.length)).2.1.length < 2 ^ 16 := by
    rcases k3 with k3 | k3
    · omega
    · have : ((bAt B (ptr B.length)).2.1.length - 1) * 2 ≤ ((bAt B (ptr B.length)).2.1.length - 1) * cap := Nat.mul_le_mul_left _ f1
      omega
  have hfe := hf.em hi
  have hfg := hfe.grown (by simpa using h9)
  obtain ⟨bl, tk, qs, wbl, wsb, hperm, hA, hBk⟩ := hS
  have hql := hBk.1
  obtain ⟨qb, hqb⟩ := get_ex (xs := qs) (i := ptr B.length) (by omega)
  obtain ⟨es, wb, R, hes, hp1, hB1, hcl⟩ := isBks_open hBk hqb
  have hER := hE.2 _ es _ hes (bAt_ex hi)
  have hu1 : uBall cap es.length (bAt B (ptr B.length)).2.1.length = uBall cap (bAt B (ptr B.length)).1.length (bAt B (ptr B.length)).2.1.length := by rw [hER.1]
  have hu2 : uAdd qs.length = uAdd B.length := by rw [hql]
  have hperm2 : w.Perm (jflat [[(tk, tkO g (usd B))], wb, [(q, stO (cap, lo, up, s1, s2) (lvl B.length) (ptr B.length) sz hs bl tk)], wbl, R]) := (by letI : DecidableEq (Nat × va_E) := fun _ _ => Classical.propDecidable _; exact List.perm_iff_count.mpr (fun a_ => by have e0_ := List.Perm.count_eq (hperm) a_; have e1_ := List.Perm.count_eq (hp1) a_; simp only [List.flatten_cons, List.flatten_nil, jflat, List.cons_append, List.nil_append, List.count_append, List.count_cons, List.append_nil, List.count_nil, List.flatten_append, bkO, pgO, stO, eO, tkO, eA] at e0_ e1_ ⊢; omega))
  have hz : ∀ c, c ∈ jflat [[(tk, tkO g (usd B))], wb, [(q, stO (cap, lo, up, s1, s2) (lvl B.length) (ptr B.length) sz hs bl tk)], wbl, R] → c ∈ w := fun c hc => hperm2.mem_iff.mpr hc
  have hAr : ALR g w bl qs := hA.r (fun c hc => hz c (by simp [jflat, hc]))
  obtain ⟨m5, b5, hz5, -⟩ := id hAr
  obtain ⟨cb0, ps0, hb0, -⟩ := hB1.r (S := wb) (fun _ h => h)
  have hzq : (q, stO (cap, lo, up, s1, s2) (lvl B.length) (ptr B.length) sz hs bl tk) ∈ w := hz _ (by simp [jflat])
  have hzb : (qb, bkO cb0 (bAt B (ptr B.length)).2.2) ∈ w := hz _ (by simp [jflat, hb0])
  refine Ctr.of [some (.ref q), none, none] hG (by decide +kernel) rfl (Nat.le_of_ble_eq_true rfl) (fun Y hl hN0 o r hI => ?_)
  subst hl
  have hN : ∀ i, i < 3 → i < yN Y := fun i h => by rw [hN0]; exact h
  refine j_ald_n o dX2_split_0 rfl rfl (q := 1) rfl ?_
  refine j_gf o dX2_split_1 (jwm 0 rfl hzq) kcX2 9 (Nat.le_of_ble_eq_true rfl) q309 rfl (q := 4) rfl ?_
  refine j_ald_n o dX2_split_4 rfl rfl (q := 5) rfl ?_
  refine j_gf o dX2_split_5 (jwm 0 rfl hzq) kcX2 4 (Nat.le_of_ble_eq_true rfl) q299 rfl (q := 8) rfl ?_
  refine j_callV0 o (ctJ2_get hG _ (hAr.mono (fun _ hc => jwl 0 rfl hc)) hqb) dX2_split_8 q418 wdJ2_get mdJ2_get (jwm 0 rfl hz5) (by rfl) (by rfl) rfl (Nat.le_of_ble_eq_true rfl) (Nat.le_of_ble_eq_true rfl) (by omega) (Nat.le_of_ble_eq_true rfl) (q := 11) rfl (fun v wd hpost => ?_)
  obtain ⟨rfl, rfl⟩ := hpost
  dsimp only [List.cons_append, List.nil_append, Option.toList]
  refine j_castS (r := (RX4, TX4, 2)) o dX2_split_11 q174 (jwm 0 rfl hzb) (ci := 4) rfl (q := 14) rfl ?_
  refine j_spP _ (hperm2) ?_
  dsimp only [List.cons_append, List.nil_append]
  refine j_ast1 o dX2_split_14 rfl rfl (hN 1 (Nat.le_of_ble_eq_true rfl)) (q := 15) rfl ?_
  refine j_ald_n o dX2_split_15 rfl rfl (q := 16) rfl ?_
  refine j_ald_n o dX2_split_16 rfl rfl (q := 17) rfl ?_
  refine j_callV2 o (ctX2_emptied hG _ (cap := cap) (F := (cap, lo, up, s1, s2)) (jwl 0 rfl List.mem_cons_self) hB1 (fun y hy => (hER.el y hy).mono (fun _ => jmr)) k1 (by rw [hER.1]; exact k2) hpg (by rw [hER.1]; omega) k5) dX2_split_17 q559 wdX2_emptied mdX2_emptied (jw 2 0 rfl rfl) (by rfl) (by rfl) rfl (Nat.le_of_ble_eq_true rfl) (Nat.le_of_ble_eq_true rfl) (by omega) (Nat.le_of_ble_eq_true rfl) (q := 20) rfl (fun v wd hpost => ?_)
  obtain ⟨a, wa, wb2, rfl, rfl, hAa, hB2⟩ := hpost
  dsimp only [List.cons_append, List.nil_append, Option.toList]
  rw [tkO_congr (fun k => (usd_em hnd hi).symm)]
  obtain ⟨wsb2, hp3, hBk2⟩ := hcl [] (emB (bAt B (ptr B.length))) wb2 hB2
  have hl2 : (grw (B.set (ptr B.length) (emB (bAt B (ptr B.length))))).length = B.length + 1 := by simp [grw]
  refine j_ast2 o dX2_split_20 rfl rfl (hN 2 (Nat.le_of_ble_eq_true rfl)) (q := 21) rfl ?_
  refine j_ald_n o dX2_split_21 rfl rfl (q := 22) rfl ?_
  refine j_mv4 ?_
  refine j_mv1 ?_
  refine j_callV2 o (ctX2_addBucket hG _ (cap := cap) (F := (cap, lo, up, s1, s2)) (us2 := usd (grw (B.set (ptr B.length) (emB (bAt B (ptr B.length)))))) (jwl 2 rfl List.mem_cons_self) hA (fun y hy => by obtain ⟨cb, fl, hm⟩ := hBk2.el hy; rcases List.mem_append.mp (hp3.mem_iff.mpr hm) with h | h; exact Or.inl ⟨_, jwl 0 rfl h, trivial⟩; exact Or.inl ⟨_, jwl 3 rfl h, trivial⟩) (by omega) hfe.us (fun k => by rw [grw, usd_snoc, List.mem_append, List.mem_singleton, or_comm])) dX2_split_22 q170 wdX2_addBucket mdX2_addBucket (jw 4 0 rfl rfl) (by rfl) (by rfl) rfl (Nat.le_of_ble_eq_true rfl) (Nat.le_of_ble_eq_true rfl) (by omega) (Nat.le_of_ble_eq_true rfl) (q := 25) rfl (fun v wd hpost => ?_)
  obtain ⟨qb2, wbl2, wn, rfl, rfl, hA2, hBn⟩ := hpost
  dsimp only [List.cons_append, List.nil_append, Option.toList]
  refine j_pop o dX2_split_25 rfl (q := 26) rfl ?_
  refine j_ald_n o dX2_split_26 rfl rfl (q := 27) rfl ?_
  refine j_dup o dX2_split_27 rfl (q := 28) rfl ?_
  refine j_gf o dX2_split_28 (jw 5 0 rfl rfl) kcX2 4 (Nat.le_of_ble_eq_true rfl) q299 rfl (q := 31) rfl ?_
  refine j_iconst o (nI 1) dX2_split_31 (by decide) (q := 32) rfl ?_
  refine j_iadd o dX2_split_32 (q := 33) rfl ?_
  refine j_topi o (nI (ptr B.length + 1)) (nI_1 _) ?_
  refine j_pf o dX2_split_33 5 0 rfl rfl kcX2 4 (Nat.le_of_ble_eq_true rfl) q299 rfl rfl rfl (Nat.le_of_ble_eq_true rfl) (q := 36) rfl ?_
  dsimp only [List.set]
  refine j_ald_n o dX2_split_36 rfl rfl (q := 37) rfl ?_
  refine j_gf o dX2_split_37 (jw 5 0 rfl rfl) kcX2 4 (Nat.le_of_ble_eq_true rfl) q299 rfl (q := 40) rfl ?_
  refine j_ald_n o dX2_split_40 rfl rfl (q := 41) rfl ?_
  have fin : ∀ (lv pt u9 : Nat), lv = lvl (B.length + 1) → pt = ptr (B.length + 1) → u9 ≤ uBall cap (bAt B (ptr B.length)).1.length (bAt B (ptr B.length)).2.1.length + (5 + uAdd B.length) → J g Y [[(tk, tkO g (usd (grw (B.set (ptr B.length) (emB (bAt B (ptr B.length)))))))], wbl2, wn, wb2, wa, [(q, stO (cap, lo, up, s1, s2) lv pt sz hs bl tk)], R] u9 62 [some (.ref q), some (.ref qb), some (.ref a)] [] := by
    intro lv pt u9 e1 e2 hu9
    refine j_mv5 ?_
    refine j_mv6 ?_
    refine j_mgN [_, _, _, _, _, _] (fun w3 hw3 => ?_)
    first | dsimp only [List.cons_append, List.nil_append] | skip
    have hS3 : isSt g hs q (cap, lo, up, s1, s2) lv pt sz (grw (B.set (ptr B.length) (emB (bAt B (ptr B.length))))) (ess.set (ptr B.length) [] ++ [[]]) w3 := ⟨bl, tk, qs ++ [qb2], wbl2, wsb2 ++ [wn], (by letI : DecidableEq (Nat × va_E) := fun _ _ => Classical.propDecidable _; exact List.perm_iff_count.mpr (fun a_ => by have e0_ := List.Perm.count_eq (hw3) a_; have e1_ := List.Perm.count_eq (hp3) a_; simp only [List.flatten_cons, List.flatten_nil, jflat, List.cons_append, List.nil_append, List.count_append, List.count_cons, List.append_nil, List.count_nil, List.flatten_append, bkO, pgO, stO, eO, tkO, eA] at e0_ e1_ ⊢; omega)), hA2, isBks_push (b := ([], [lowF (usd (B.set (ptr B.length) (emB (bAt B (ptr B.length)))))], 0)) hBk2 hBn⟩
    have hE3 : ∀ S, entB S ess B → entB S (ess.set (ptr B.length) [] ++ [[]]) (grw (B.set (ptr B.length) (emB (bAt B (ptr B.length))))) := fun S hE9 => entB_push (entB_set hE9 entR_nil) entR_nil
    have hq3 : (q, stO (cap, lo, up, s1, s2) lv pt sz hs bl tk) ∈ w3 := hw3.mem_iff.mpr (by simp [jflat])
    refine j_ald_n o dX2_split_62 rfl rfl (q := 63) rfl ?_
    refine j_ald_n o dX2_split_63 rfl rfl (q := 64) rfl ?_
    refine j_callV1 o (ctX2_appendAll hG _ hS3 ((hE3 bg hE).mono (fun _ => jmr)) (jmr hh) (hAa.r (fun c hc => jwl 0 rfl hc)) (hER.mono (fun _ => jmr)) (by rw [hl2, e1]) (by rw [hl2, e2]) hfg hc hs9 hk) dX2_split_64 q584 wdX2_appendAll mdX2_appendAll (jwm 0 rfl hq3) (by rfl) (by rfl) rfl (Nat.le_of_ble_eq_true rfl) (Nat.le_of_ble_eq_true rfl) (by omega) (Nat.le_of_ble_eq_true rfl) (q := 67) rfl (fun v wd hpost => ?_)
    obtain ⟨rfl, ess4, w4, rfl, hS4, hE4⟩ := hpost
    dsimp only [List.cons_append, List.nil_append, Option.toList]
    obtain ⟨bl4, tk4, R4, hp4, hcl4⟩ := isSt_cell hS4
    refine j_ald_n o dX2_split_67 rfl rfl (q := 68) rfl ?_
    refine j_spP _ (hp4) ?_
    dsimp only [List.cons_append, List.nil_append]
    refine j_dup o dX2_split_68 rfl (q := 69) rfl ?_
    refine j_gf o dX2_split_69 (jw 0 0 rfl rfl) kcX2 6 (Nat.le_of_ble_eq_true rfl) q303 rfl (q := 72) rfl ?_
    refine j_iconst o (nI 1) dX2_split_72 (by decide) (q := 73) rfl ?_
    refine j_iadd o dX2_split_73 (q := 74) rfl ?_
    refine j_topi o (nI (s1 + 1)) (nI_1 _) ?_
    refine j_pf o dX2_split_74 0 0 rfl rfl kcX2 6 (Nat.le_of_ble_eq_true rfl) q303 rfl rfl rfl (Nat.le_of_ble_eq_true rfl) (q := 77) rfl ?_
    dsimp only [List.set]
    refine j_mgN [_, _] (fun w5 hw5 => ?_)
    first | dsimp only [List.cons_append, List.nil_append] | skip
    exact j_vret o r dX2_split_77 [_] _ rfl (⟨rfl, ess4, w5, rfl, by rw [← e1, ← e2]; exact hcl4 hs (cap, lo, up, s1 + 1, s2) lv pt sz w5 rfl (by letI : DecidableEq (Nat × va_E) := fun _ _ => Classical.propDecidable _; exact List.perm_iff_count.mpr (fun a_ => by have e0_ := List.Perm.count_eq (hw5) a_; simp only [List.flatten_cons, List.flatten_nil, jflat, List.cons_append, List.nil_append, List.count_append, List.count_cons, List.append_nil, List.count_nil, List.flatten_append, bkO, pgO, stO, eO, tkO, eA] at e0_ ⊢; omega)), fun S hE9 => hE4 S (hE3 S hE9) (hE9.2 _ es _ hes (bAt_ex hi))⟩) (by omega)
  have hup := bse_up f3
  refine j_callV0 o (ctX2_base hG _ (F := (cap, lo, up, s1, s2)) (jwl 5 rfl List.mem_cons_self) hlv) dX2_split_41 q503 wdX2_base mdX2_base (jw 5 0 rfl rfl) (by rfl) (by rfl) rfl (Nat.le_of_ble_eq_true rfl) (Nat.le_of_ble_eq_true rfl) (by omega) (Nat.le_of_ble_eq_true rfl) (q := 44) rfl (fun v wd hpost => ?_)
  obtain ⟨rfl, rfl⟩ := hpost
  dsimp only [List.cons_append, List.nil_append, Option.toList]
  rw [bse_lvl f3]
  have hbl := bse_le (n := B.length) (by omega)
  refine j_icne o 62 dX2_split_44 (by decide) (q := 47) rfl (fun c => ?_) (fun c => ?_)
  · have c : ptr B.length + 1 ≠ bse B.length := fun e => c (by rw [e])
    exact fin _ _ _ (hup.2 c).1.symm (hup.2 c).2.symm (by omega)
  · have c : ptr B.length + 1 = bse B.length := (nI_eq (by omega) (by omega)).mp c
    refine j_ald_n o dX2_split_47 rfl rfl (q := 48) rfl ?_
    refine j_dup o dX2_split_48 rfl (q := 49) rfl ?_
    refine j_gf o dX2_split_49 (jw 5 0 rfl rfl) kcX2 3 (Nat.le_of_ble_eq_true rfl) q297 rfl (q := 52) rfl ?_
    refine j_iconst o (nI 1) dX2_split_52 (by decide) (q := 53) rfl ?_
    refine j_iadd o dX2_split_53 (q := 54) rfl ?_
    refine j_topi o (nI (lvl B.length + 1)) (nI_1 _) ?_
    refine j_pf o dX2_split_54 5 0 rfl rfl kcX2 3 (Nat.le_of_ble_eq_true rfl) q297 rfl rfl rfl (Nat.le_of_ble_eq_true rfl) (q := 57) rfl ?_
    dsimp only [List.set]
    refine j_ald_n o dX2_split_57 rfl rfl (q := 58) rfl ?_
    refine j_iconst o (nI 0) dX2_split_58 (by decide) (q := 59) rfl ?_
    refine j_pf o dX2_split_59 5 0 rfl rfl kcX2 4 (Nat.le_of_ble_eq_true rfl) q299 rfl rfl rfl (Nat.le_of_ble_eq_true rfl) (q := 62) rfl ?_
    dsimp only [List.set]
    exact fin _ 0 _ (hup.1 c).1.symm (hup.1 c).2.symm (by omega)

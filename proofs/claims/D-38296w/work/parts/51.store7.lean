/-! THE STORE, seventh: get, put -/
set_option maxRecDepth 100000
theorem jFst_find {rs : List Row} {key i : Nat} {r : Row} (h : jFst (rs.map (·.1)) key i) (hr : rs[i]? = some r) : rs.find? (fun r => decide (r.1 = key)) = some r ∧ plc rs key = i ∧ r.1 = key := by
  induction rs generalizing i with
  | nil => simp at hr
  | cons x rs ih =>
    obtain ⟨h1, h2⟩ := h
    cases i with
    | zero =>
      have hx : x = r := by simpa using hr
      subst hx
      have hk : x.1 = key := by simpa using h1
      exact ⟨by simp [hk], by simp [plc, List.findIdx_cons, hk], hk⟩
    | succ i =>
      have hk : ¬ x.1 = key := by
        have := h2 0 (by omega)
        simpa using this
      obtain ⟨a1, a2, a3⟩ := ih (i := i) ⟨by simpa using h1, fun j hj => by have := h2 (j + 1) (by omega); simpa using this⟩ (by simpa using hr)
      refine ⟨by simp [hk, a1], ?_, a3⟩
      unfold plc at a2 ⊢
      rw [List.findIdx_cons, a2]
      simp [hk]
theorem no_find {rs : List Row} {key : Nat} (h : key ∉ rs.map (·.1)) : rs.find? (fun r => decide (r.1 = key)) = none := by
  rw [List.find?_eq_none]
  intro r hr
  simp only [decide_eq_true_eq]
  intro e
  exact h (List.mem_map.mpr ⟨r, hr, e⟩)
theorem fits.m16 {cap more i : Nat} {B : List Bkt} (h : fits cap B more) (hi : i < B.length) : (bAt B i).2.1.length < 2 ^ 10 := by
  obtain ⟨k1, k2, k3, k4, k5⟩ := h.2.2.2.2.2.1.at hi
  have := rws_at hi
  have f5 := h.2.2.2.2.1
  rcases k3 with k3 | k3
  · omega
  · have : ((bAt B i).2.1.length - 1) * 2 ≤ ((bAt B i).2.1.length - 1) * cap := Nat.mul_le_mul_left _ h.1
    omega
theorem ctX2_get {l : Launch} {g : jG} (hG : GS l g) (bg : va_W) {q sz hs ch sd key : Nat} {F5 : K5} {B : List Bkt} {ess : List (List Nat)} (hR : stR g bg hs q F5 (lvl B.length) (ptr B.length) sz B ess) (hE : entB bg ess B) (hh : (hs, hsO ch sd) ∈ bg) (hI9 : Inv F5.1 ch sd B) (hc : ch < 1024) (hs9 : sd < 10) (hkey : key < 2 ^ 31) : KX2_get l g 6 0 [.ref q, .int (nI key)] bg [] (fun v wd => ((∃ i es e r, ess[bOf ch sd B key]? = some es ∧ jFst ((bAt B (bOf ch sd B key)).1.map (·.1)) key i ∧ es[i]? = some e ∧ (bAt B (bOf ch sd B key)).1[i]? = some r ∧ v = some (.ref e)) ∨ (key ∉ (bAt B (bOf ch sd B key)).1.map (·.1) ∧ v = some .null)) ∧ wd = []) := by
  obtain ⟨hf, ha⟩ := hI9
  have f3 := hf.2.2.1
  have f4 := hf.2.2.2.1
  have f5 := hf.2.2.2.2.1
  have hi : bOf ch sd B key < B.length := adr_lt (by omega)
  obtain ⟨bl, tk, qs, r1, r2, r3, r4, r5, r6⟩ := hR
  obtain ⟨qb, hqb⟩ := get_ex (xs := qs) (i := bOf ch sd B key) (by omega)
  obtain ⟨es, hes⟩ := get_ex (xs := ess) (i := bOf ch sd B key) (by omega)
  have hB := bAt_ex hi
  obtain ⟨chn, ps, b1, b2, b3⟩ := r6 _ _ _ _ hqb hB hes
  have hER := hE.2 _ es _ hes hB
  obtain ⟨k1, k2, k3, k4, k5⟩ := hf.2.2.2.2.2.1.at hi
  have hrw := rws_at hi
  have hks : ∀ r ∈ (bAt B (bOf ch sd B key)).1, r.1 < 2 ^ 31 := fun r hr => by
    have := ((ha.own hi).1 r hr).1
    omega
  have hlv := lvl_lt (n := B.length) (by omega)
  have hpl := ptr_le (n := B.length)
  have hER1 := hER.1
  refine Ctr.of [some (.ref q), some (.int (nI key)), none] hG (by decide +kernel) rfl (Nat.le_of_ble_eq_true rfl) (fun Y hl hN0 o r hI => ?_)
  subst hl
  have hN : ∀ i, i < 3 → i < yN Y := fun i h => by rw [hN0]; exact h
  refine j_ald_n o dX2_get_0 rfl rfl (q := 1) rfl ?_
  refine j_ild_n o dX2_get_1 rfl (q := 2) rfl ?_
  refine j_callV0 o (ctX2_bucketOf hG _ (F := F5) (jmr r1) (jmr hh) (r3.mono (fun _ => jmr)) hlv (by omega) hc hs9 hkey (by rw [← adr_ad f3]; exact hqb) (jmr b1)) dX2_get_2 q488 wdX2_bucketOf mdX2_bucketOf (jb r1) (by rfl) (by rfl) rfl (Nat.le_of_ble_eq_true rfl) (Nat.le_of_ble_eq_true rfl) (by omega) (Nat.le_of_ble_eq_true rfl) (q := 5) rfl (fun v wd hpost => ?_)
  obtain ⟨rfl, rfl⟩ := hpost
  dsimp only [List.cons_append, List.nil_append, Option.toList]
  refine j_ild_n o dX2_get_5 rfl (q := 6) rfl ?_
  refine j_callV0 o (ctX4_pageOf hG _ (cap := F5.1) (jmr b1) (b2.mono (fun _ => jmr)) (b3.mono (fun _ => jmr)) (hER.mono (fun _ => jmr)) (by rw [hER.1]; exact k2) (by have := hf.1; omega) (by rw [hER.1]; omega) hkey hks) dX2_get_6 q507 wdX4_pageOf mdX4_pageOf (jb b1) (by rfl) (by rfl) rfl (Nat.le_of_ble_eq_true rfl) (Nat.le_of_ble_eq_true rfl) (by omega) (Nat.le_of_ble_eq_true rfl) (q := 9) rfl (fun v wd hpost => ?_)
  obtain ⟨hx, rfl⟩ := hpost
  dsimp only [List.cons_append, List.nil_append, Option.toList]
  rcases hx with ⟨i, p, hF, hp, rfl⟩ | ⟨hno, rfl⟩
  · obtain ⟨n, rl, b4, b5, b6⟩ := b3.2 _ p hp
    obtain ⟨m5, a5, b7, -⟩ := id b6
    refine j_ast2 o dX2_get_9 rfl rfl (hN 2 (Nat.le_of_ble_eq_true rfl)) (q := 10) rfl ?_
    refine j_ald_n o dX2_get_10 rfl rfl (q := 11) rfl ?_
    refine j_ifnn o 18 dX2_get_11 (by decide) ?_
    refine j_ald_n o dX2_get_18 rfl rfl (q := 19) rfl ?_
    refine j_gf o dX2_get_19 (jb b5) kcX5 1 (Nat.le_of_ble_eq_true rfl) q212 rfl (q := 22) rfl ?_
    refine j_ald_n o dX2_get_22 rfl rfl (q := 23) rfl ?_
    refine j_ild_n o dX2_get_23 rfl (q := 24) rfl ?_
    refine j_callSN0 o (ctX1_placeIn hG _ (jmr b5) (b6.mono (fun _ => jmr)) ((hER.pg F5.1 (i / F5.1)).mono (fun _ => jmr)) hkey (fun r hr => hks r (List.mem_of_mem_drop (List.mem_of_mem_take hr)))) dX2_get_24 q522 wdX1_placeIn mdX1_placeIn rfl (Nat.le_of_ble_eq_true rfl) (Nat.le_of_ble_eq_true rfl) (by omega) (Nat.le_of_ble_eq_true rfl) (q := 27) rfl (fun v wd hpost => ?_)
    obtain ⟨x, rfl, hx, rfl⟩ := hpost
    dsimp only [List.cons_append, List.nil_append, Option.toList]
    rw [map_pg] at hx
    have hil := get_lt hF.1
    have hc0 : 0 < F5.1 := by have := hf.1; omega
    have hdm : i / F5.1 * F5.1 ≤ i := Nat.div_mul_le_self _ _
    have hdm2 : i < i / F5.1 * F5.1 + F5.1 := by have := Nat.lt_div_mul_add (a := i) hc0; omega
    rcases hx with ⟨k, hk1, hk2, hk3, rfl⟩ | ⟨hk, rfl⟩
    · rw [pgE_len, List.length_map] at hk1
      have hkc : k < F5.1 := by omega
      rw [pgE_get hkc] at hk2
      have hF2 : jFst ((bAt B (bOf ch sd B key)).1.map (·.1)) key (i / F5.1 * F5.1 + k) := ⟨hk2, fun j hj => by
        rcases Nat.lt_or_ge j (i / F5.1 * F5.1) with h9 | h9
        · exact hF.2 j (by omega)
        · have h8 := hk3 (j - i / F5.1 * F5.1) (by omega)
          rw [pgE_get (by omega), show i / F5.1 * F5.1 + (j - i / F5.1 * F5.1) = j by omega] at h8
          exact h8⟩
      have hl9 := get_lt hk2
      rw [List.length_map] at hl9
      obtain ⟨e, he⟩ := get_ex (xs := es) (i := i / F5.1 * F5.1 + k) (by omega)
      obtain ⟨r9, hr9⟩ := get_ex (xs := (bAt B (bOf ch sd B key)).1) (i := i / F5.1 * F5.1 + k) hl9
      have hen := hER.2 _ e r9 he hr9
      refine j_callV0 o (ctJ2_get hG _ (b6.mono (fun _ => jmr)) (x := e) (by rw [pgE_get hkc]; exact he)) dX2_get_27 q418 wdJ2_get mdJ2_get (jb b7) (by rfl) (by rfl) rfl (Nat.le_of_ble_eq_true rfl) (Nat.le_of_ble_eq_true rfl) (by omega) (Nat.le_of_ble_eq_true rfl) (q := 30) rfl (fun v wd hpost => ?_)
      obtain ⟨rfl, rfl⟩ := hpost
      dsimp only [List.cons_append, List.nil_append, Option.toList]
      refine j_castS (r := (RX11, TX11, 2)) o dX2_get_30 q435 (jb hen) (ci := 11) rfl (q := 33) rfl ?_
      exact j_aret o r dX2_get_33 (by first | exact Or.inl ⟨_, rfl⟩ | exact Or.inr ⟨_, rfl⟩) rfl [] _ rfl (⟨Or.inl ⟨_, es, e, r9, hes, hF2, he, hr9, rfl⟩, rfl⟩) (by omega)
    · refine absurd (List.mem_of_getElem? (i := i - i / F5.1 * F5.1) (a := key) ?_) hk
      rw [pgE_get (by omega), show i / F5.1 * F5.1 + (i - i / F5.1 * F5.1) = i by omega]
      exact hF.1
  · refine j_ast2 o dX2_get_9 rfl rfl (hN 2 (Nat.le_of_ble_eq_true rfl)) (q := 10) rfl ?_
    refine j_ald_n o dX2_get_10 rfl rfl (q := 11) rfl ?_
    refine j_ifnnN o dX2_get_11 (q := 14) rfl ?_
    refine j_null o dX2_get_14 (q := 15) rfl ?_
    refine j_goto o 33 dX2_get_15 (by decide) ?_
    exact j_aret o r dX2_get_33 (by first | exact Or.inl ⟨_, rfl⟩ | exact Or.inr ⟨_, rfl⟩) rfl [] _ rfl (⟨Or.inr ⟨hno, rfl⟩, rfl⟩) (by omega)

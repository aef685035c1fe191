/-! HOW A FILE LIES IN THE HEAP: pages, buckets, store; for reading (..R) and for writing -/
set_option maxRecDepth 100000
abbrev bkO (ch fl : Nat) : va_E := eO 4 [.ref ch, .int (nI fl)]
/-- page j's part of the records -/
abbrev pgE {α : Type} (cap : Nat) (es : List α) (j : Nat) : List α := (es.drop (j * cap)).take cap
def pgsR (g : jG) (S : va_W) (cap : Nat) (ps pages es : List Nat) : Prop := ps.length = pages.length ∧ ∀ j p, ps[j]? = some p → ∃ n rl, pages[j]? = some n ∧ (p, pgO n rl) ∈ S ∧ ALR g S rl (pgE cap es j)
def bkR (g : jG) (S : va_W) (cap qb : Nat) (es pages : List Nat) (fl : Nat) : Prop := ∃ ch ps, (qb, bkO ch fl) ∈ S ∧ ALR g S ch ps ∧ pgsR g S cap ps pages es
theorem pgsR.mono {g : jG} {S S2 : va_W} {cap : Nat} {ps pages es : List Nat} (h : pgsR g S cap ps pages es) (hs : ∀ c ∈ S, c ∈ S2) : pgsR g S2 cap ps pages es :=
  ⟨h.1, fun j p hp => by obtain ⟨n, rl, h1, h2, h3⟩ := h.2 j p hp; exact ⟨n, rl, h1, hs _ h2, h3.mono hs⟩⟩
theorem bkR.mono {g : jG} {S S2 : va_W} {cap qb : Nat} {es pages : List Nat} {fl : Nat} (h : bkR g S cap qb es pages fl) (hs : ∀ c ∈ S, c ∈ S2) : bkR g S2 cap qb es pages fl := by
  obtain ⟨ch, ps, h1, h2, h3⟩ := h
  exact ⟨ch, ps, hs _ h1, h2.mono hs, h3.mono hs⟩
/-- a chain's shape: so many pages as the records need, one at least -/
def okB (cap k m : Nat) : Prop := 1 ≤ m ∧ k ≤ m * cap ∧ (m - 1) * cap ≤ k
theorem pgE_len {α : Type} (cap : Nat) (es : List α) (j : Nat) : (pgE cap es j).length = min cap (es.length - j * cap) := by simp [pgE]
theorem take_pg {α : Type} (cap : Nat) (es : List α) (j : Nat) : es.take (j * cap) ++ pgE cap es j = es.take ((j + 1) * cap) := by
  rw [Nat.succ_mul, List.take_add]
theorem pgE_get {α : Type} {cap : Nat} {es : List α} {j i : Nat} (hi : i < cap) : (pgE cap es j)[i]? = es[j * cap + i]? := by
  simp [pgE, List.getElem?_take, hi, List.getElem?_drop]
theorem entR.pg {S : va_W} {es : List Nat} {rs : List Row} (h : entR S es rs) (cap j : Nat) : entR S (pgE cap es j) (pgE cap rs j) := by
  refine ⟨by rw [pgE_len, pgE_len, h.1], fun i e r h1 h2 => ?_⟩
  have hi : i < cap := by
    have := (List.getElem?_eq_some_iff.mp h1).1
    rw [pgE_len] at this
    omega
  rw [pgE_get hi] at h1 h2
  exact h.2 _ e r h1 h2
theorem entR.el {g : jG} {S : va_W} {es : List Nat} {rs : List Row} (h : entR S es rs) : ∀ e ∈ es, jElB g S e := by
  intro e he
  obtain ⟨i, hi⟩ := List.getElem?_of_mem he
  have hl := (List.getElem?_eq_some_iff.mp hi).1
  obtain ⟨r, hr⟩ : ∃ r, rs[i]? = some r := ⟨_, List.getElem?_eq_getElem (by rw [← h.1]; exact hl)⟩
  exact Or.inl ⟨_, h.2 i e r hi hr, trivial⟩
/-- units of all records of a bucket in a list -/
def uBA (cap k : Nat) : Nat → Nat → Nat
  | 0, _ => 0
  | m + 1, j => uAll (min (j * cap) k) (min cap (k - j * cap)) + uBA cap k m (j + 1)
def uBall (cap k m : Nat) : Nat := 1 + uBA cap k m 0
theorem ctX4_last {l : Launch} {g : jG} (hG : GS l g) (bg : va_W) {qb ch fl p n rl : Nat} {ps : List Nat} (hb : (qb, bkO ch fl) ∈ bg) (hc : ALR g bg ch ps) (hx : ps[ps.length - 1]? = some p) (hp : (p, pgO n rl) ∈ bg) : KX4_last l g 4 0 [.ref qb] bg [] (fun v wd => v = some (.ref p) ∧ wd = []) := by
  obtain ⟨m, b, hq, h0, h⟩ := id hc
  have h1 : ps.length - 1 < ps.length := (List.getElem?_eq_some_iff.mp hx).1
  refine Ctr.of [some (.ref qb)] hG (by decide +kernel) rfl (Nat.le_of_ble_eq_true rfl) (fun Y hl hN0 o r hI => ?_)
  subst hl
  have hN : ∀ i, i < 1 → i < yN Y := fun i h => by rw [hN0]; exact h
  refine j_ald_n o dX4_last_0 rfl rfl (q := 1) rfl ?_
  refine j_gf o dX4_last_1 (jb hb) kcX4 0 (Nat.le_of_ble_eq_true rfl) q182 rfl (q := 4) rfl ?_
  refine j_ald_n o dX4_last_4 rfl rfl (q := 5) rfl ?_
  refine j_gf o dX4_last_5 (jb hb) kcX4 0 (Nat.le_of_ble_eq_true rfl) q182 rfl (q := 8) rfl ?_
  refine j_callV0 o (ctJ2_size hG _ (jmr hq)) dX4_last_8 q511 wdJ2_size mdJ2_size (jb hq) (by rfl) (by rfl) rfl (Nat.le_of_ble_eq_true rfl) (Nat.le_of_ble_eq_true rfl) (by omega) (Nat.le_of_ble_eq_true rfl) (q := 11) rfl (fun v wd hpost => ?_)
  obtain ⟨rfl, rfl⟩ := hpost
  dsimp only [List.cons_append, List.nil_append, Option.toList]
  refine j_iconst o (nI 1) dX4_last_11 (by decide) (q := 12) rfl ?_
  refine j_isub o dX4_last_12 (q := 13) rfl ?_
  refine j_topi o (nI (ps.length - 1)) (pk_sub (by omega)) ?_
  refine j_callV0 o (ctJ2_get hG _ (hc.mono (fun _ => jmr)) hx) dX4_last_13 q512 wdJ2_get mdJ2_get (jb hq) (by rfl) (by rfl) rfl (Nat.le_of_ble_eq_true rfl) (Nat.le_of_ble_eq_true rfl) (by omega) (Nat.le_of_ble_eq_true rfl) (q := 16) rfl (fun v wd hpost => ?_)
  obtain ⟨rfl, rfl⟩ := hpost
  dsimp only [List.cons_append, List.nil_append, Option.toList]
  refine j_castS (r := (RX5, TX5, 2)) o dX4_last_16 q513 (jb hp) (ci := 5) rfl (q := 19) rfl ?_
  exact j_aret o r dX4_last_19 (by first | exact Or.inl ⟨_, rfl⟩ | exact Or.inr ⟨_, rfl⟩) rfl [] _ rfl (⟨rfl, rfl⟩) (by omega)
theorem ctX4_size {l : Launch} {g : jG} (hG : GS l g) (bg : va_W) {qb fl cap : Nat} {es pages : List Nat} (hB : bkR g bg cap qb es pages fl) (hk : es.length ≤ pages.length * cap) (hl9 : es.length < 2 ^ 18) : KX4_size l g 4 0 [.ref qb] bg [] (fun v wd => v = some (.int (nI es.length)) ∧ wd = []) := by
  obtain ⟨ch, ps, hb, hc, hps⟩ := hB
  obtain ⟨m, b, hq, h0, h⟩ := id hc
  have hlen := hps.1
  refine Ctr.of [some (.ref qb), none, none] hG (by decide +kernel) rfl (Nat.le_of_ble_eq_true rfl) (fun Y hl hN0 o r hI => ?_)
  subst hl
  have hN : ∀ i, i < 3 → i < yN Y := fun i h => by rw [hN0]; exact h
  have loop : ∀ d k, k + d = ps.length → J g Y [] 0 4 [some (.ref qb), some (.int (nI (min (k * cap) es.length))), some (.int (nI k))] [] := by
    intro d
    induction d with
    | zero =>
      intro k hk9
      refine j_ild_n o dX4_size_4 rfl (q := 5) rfl ?_
      refine j_ald_n o dX4_size_5 rfl rfl (q := 6) rfl ?_
      refine j_gf o dX4_size_6 (jb hb) kcX4 0 (Nat.le_of_ble_eq_true rfl) q182 rfl (q := 9) rfl ?_
      refine j_callV0 o (ctJ2_size hG _ (jmr hq)) dX4_size_9 q511 wdJ2_size mdJ2_size (jb hq) (by rfl) (by rfl) rfl (Nat.le_of_ble_eq_true rfl) (Nat.le_of_ble_eq_true rfl) (by omega) (Nat.le_of_ble_eq_true rfl) (q := 12) rfl (fun v wd hpost => ?_)
      obtain ⟨rfl, rfl⟩ := hpost
      dsimp only [List.cons_append, List.nil_append, Option.toList]
      refine j_icgeT o 41 dX4_size_12 (by decide) (nI_le (by omega) (by omega)) ?_
      refine j_ild_n o dX4_size_41 rfl (q := 42) rfl ?_
      have e : min (k * cap) es.length = es.length := by
        rw [show k = pages.length by omega]
        omega
      rw [e]
      exact j_ret o r dX4_size_42 rfl [] _ rfl (⟨rfl, rfl⟩) (by omega)
    | succ d ih =>
      intro k hk9
      obtain ⟨p, hp⟩ : ∃ p, ps[k]? = some p := ⟨_, List.getElem?_eq_getElem (by omega)⟩
      obtain ⟨n, rl, hn, hpc, hA⟩ := hps.2 k p hp
      obtain ⟨m2, b2, hq2, h02, h2⟩ := id hA
      refine j_ild_n o dX4_size_4 rfl (q := 5) rfl ?_
      refine j_ald_n o dX4_size_5 rfl rfl (q := 6) rfl ?_
      refine j_gf o dX4_size_6 (jb hb) kcX4 0 (Nat.le_of_ble_eq_true rfl) q182 rfl (q := 9) rfl ?_
      refine j_callV0 o (ctJ2_size hG _ (jmr hq)) dX4_size_9 q511 wdJ2_size mdJ2_size (jb hq) (by rfl) (by rfl) rfl (Nat.le_of_ble_eq_true rfl) (Nat.le_of_ble_eq_true rfl) (by omega) (Nat.le_of_ble_eq_true rfl) (q := 12) rfl (fun v wd hpost => ?_)
      obtain ⟨rfl, rfl⟩ := hpost
      dsimp only [List.cons_append, List.nil_append, Option.toList]
      refine j_icgeF o (t := 41) dX4_size_12 (by decide) (q := 15) rfl (nI_ge (by omega) (by omega)) ?_
      refine j_ild_n o dX4_size_15 rfl (q := 16) rfl ?_
      refine j_ald_n o dX4_size_16 rfl rfl (q := 17) rfl ?_
      refine j_gf o dX4_size_17 (jb hb) kcX4 0 (Nat.le_of_ble_eq_true rfl) q182 rfl (q := 20) rfl ?_
      refine j_ild_n o dX4_size_20 rfl (q := 21) rfl ?_
      refine j_callV0 o (ctJ2_get hG _ (hc.mono (fun _ => jmr)) hp) dX4_size_21 q512 wdJ2_get mdJ2_get (jb hq) (by rfl) (by rfl) rfl (Nat.le_of_ble_eq_true rfl) (Nat.le_of_ble_eq_true rfl) (by omega) (Nat.le_of_ble_eq_true rfl) (q := 24) rfl (fun v wd hpost => ?_)
      obtain ⟨rfl, rfl⟩ := hpost
      dsimp only [List.cons_append, List.nil_append, Option.toList]
      refine j_castS (r := (RX5, TX5, 2)) o dX4_size_24 q513 (jb hpc) (ci := 5) rfl (q := 27) rfl ?_
      refine j_gf o dX4_size_27 (jb hpc) kcX5 1 (Nat.le_of_ble_eq_true rfl) q210 rfl (q := 30) rfl ?_
      refine j_callV0 o (ctJ2_size hG _ (jmr hq2)) dX4_size_30 q511 wdJ2_size mdJ2_size (jb hq2) (by rfl) (by rfl) rfl (Nat.le_of_ble_eq_true rfl) (Nat.le_of_ble_eq_true rfl) (by omega) (Nat.le_of_ble_eq_true rfl) (q := 33) rfl (fun v wd hpost => ?_)
      obtain ⟨rfl, rfl⟩ := hpost
      dsimp only [List.cons_append, List.nil_append, Option.toList]
      refine j_iadd o dX4_size_33 (q := 34) rfl ?_
      have e : nI (min (k * cap) es.length) + nI (pgE cap es k).length = nI (min ((k + 1) * cap) es.length) := by
        rw [nI_add, pgE_len, Nat.succ_mul]
        congr 1
        omega
      rw [e]
      refine j_ist1 o dX4_size_34 rfl (hN 1 (Nat.le_of_ble_eq_true rfl)) (q := 35) rfl ?_
      refine j_inc2 o (nI (k + 1)) dX4_size_35 (by first | exact nI_1 _ | exact pk_m1 _ | rfl) rfl (q := 38) rfl ?_
      refine j_goto o 4 dX4_size_38 (by decide) ?_
      exact ih (k + 1) (by omega)
  refine j_iconst o (nI 0) dX4_size_0 (by decide) (q := 1) rfl ?_
  refine j_ist1 o dX4_size_1 rfl (hN 1 (Nat.le_of_ble_eq_true rfl)) (q := 2) rfl ?_
  refine j_iconst o (nI 0) dX4_size_2 (by decide) (q := 3) rfl ?_
  refine j_ist2 o dX4_size_3 rfl (hN 2 (Nat.le_of_ble_eq_true rfl)) (q := 4) rfl ?_
  have h9 := loop ps.length 0 (by omega)
  rw [show min (0 * cap) es.length = 0 by omega] at h9
  exact h9
theorem ctX4_all {l : Launch} {g : jG} (hG : GS l g) (bg : va_W) {qb fl cap : Nat} {es pages : List Nat} (hB : bkR g bg cap qb es pages fl) (hel : ∀ e ∈ es, jElB g bg e) (hk : es.length ≤ pages.length * cap) (hl9 : es.length < 2 ^ 15) : KX4_all l g 6 (uBall cap es.length pages.length) [.ref qb] bg [] (fun v wd => ∃ a w, v = some (.ref a) ∧ wd = [w] ∧ AL g a es w) := by
  obtain ⟨ch, ps, hb, hc, hps⟩ := hB
  obtain ⟨m, b, hq, h0, h⟩ := id hc
  have hlen := hps.1
  refine Ctr.of [some (.ref qb), none, none] hG (by decide +kernel) rfl (Nat.le_of_ble_eq_true rfl) (fun Y hl hN0 o r hI => ?_)
  subst hl
  have hN : ∀ i, i < 3 → i < yN Y := fun i h => by rw [hN0]; exact h
  have loop : ∀ d k u9 a w, k + d = ps.length → AL g a (es.take (k * cap)) w → u9 + uBA cap es.length d k ≤ uBall cap es.length pages.length → J g Y [w] u9 10 [some (.ref qb), some (.ref a), some (.int (nI k))] [] := by
    intro d
    induction d with
    | zero =>
      intro k u9 a w hk9 hA hu
      refine j_ild_n o dX4_all_10 rfl (q := 11) rfl ?_
      refine j_ald_n o dX4_all_11 rfl rfl (q := 12) rfl ?_
      refine j_gf o dX4_all_12 (jb hb) kcX4 0 (Nat.le_of_ble_eq_true rfl) q182 rfl (q := 15) rfl ?_
      refine j_callV0 o (ctJ2_size hG _ (jmr hq)) dX4_all_15 q511 wdJ2_size mdJ2_size (jb hq) (by rfl) (by rfl) rfl (Nat.le_of_ble_eq_true rfl) (Nat.le_of_ble_eq_true rfl) (by omega) (Nat.le_of_ble_eq_true rfl) (q := 18) rfl (fun v wd hpost => ?_)
      obtain ⟨rfl, rfl⟩ := hpost
      dsimp only [List.cons_append, List.nil_append, Option.toList]
      refine j_icgeT o 46 dX4_all_18 (by decide) (nI_le (by omega) (by omega)) ?_
      refine j_ald_n o dX4_all_46 rfl rfl (q := 47) rfl ?_
      have e : es.take (k * cap) = es := List.take_of_length_le (by rw [show k = pages.length by omega]; exact hk)
      rw [e] at hA
      exact j_aret o r dX4_all_47 (by first | exact Or.inl ⟨_, rfl⟩ | exact Or.inr ⟨_, rfl⟩) rfl [_] _ rfl (⟨a, w, rfl, rfl, hA⟩) (by omega)
    | succ d ih =>
      intro k u9 a w hk9 hA hu
      obtain ⟨p, hp⟩ : ∃ p, ps[k]? = some p := ⟨_, List.getElem?_eq_getElem (by omega)⟩
      obtain ⟨n, rl, hn, hpc, hA2⟩ := hps.2 k p hp
      obtain ⟨m2, b2, hq2, h02, h2⟩ := id hA2
      have hu2 : uBA cap es.length (d + 1) k = uAll (min (k * cap) es.length) (min cap (es.length - k * cap)) + uBA cap es.length d (k + 1) := rfl
      rw [hu2] at hu
      refine j_ild_n o dX4_all_10 rfl (q := 11) rfl ?_
      refine j_ald_n o dX4_all_11 rfl rfl (q := 12) rfl ?_
      refine j_gf o dX4_all_12 (jb hb) kcX4 0 (Nat.le_of_ble_eq_true rfl) q182 rfl (q := 15) rfl ?_
      refine j_callV0 o (ctJ2_size hG _ (jmr hq)) dX4_all_15 q511 wdJ2_size mdJ2_size (jb hq) (by rfl) (by rfl) rfl (Nat.le_of_ble_eq_true rfl) (Nat.le_of_ble_eq_true rfl) (by omega) (Nat.le_of_ble_eq_true rfl) (q := 18) rfl (fun v wd hpost => ?_)
      obtain ⟨rfl, rfl⟩ := hpost
      dsimp only [List.cons_append, List.nil_append, Option.toList]
      refine j_icgeF o (t := 46) dX4_all_18 (by decide) (q := 21) rfl (nI_ge (by omega) (by omega)) ?_
      refine j_ald_n o dX4_all_21 rfl rfl (q := 22) rfl ?_
      refine j_ald_n o dX4_all_22 rfl rfl (q := 23) rfl ?_
      refine j_gf o dX4_all_23 (jb hb) kcX4 0 (Nat.le_of_ble_eq_true rfl) q182 rfl (q := 26) rfl ?_
      refine j_ild_n o dX4_all_26 rfl (q := 27) rfl ?_
      refine j_callV0 o (ctJ2_get hG _ (hc.mono (fun _ => jmr)) hp) dX4_all_27 q512 wdJ2_get mdJ2_get (jb hq) (by rfl) (by rfl) rfl (Nat.le_of_ble_eq_true rfl) (Nat.le_of_ble_eq_true rfl) (by omega) (Nat.le_of_ble_eq_true rfl) (q := 30) rfl (fun v wd hpost => ?_)
      obtain ⟨rfl, rfl⟩ := hpost
      dsimp only [List.cons_append, List.nil_append, Option.toList]
      refine j_castS (r := (RX5, TX5, 2)) o dX4_all_30 q513 (jb hpc) (ci := 5) rfl (q := 33) rfl ?_
      refine j_gf o dX4_all_33 (jb hpc) kcX5 1 (Nat.le_of_ble_eq_true rfl) q210 rfl (q := 36) rfl ?_
      have hA9 := hA
      obtain ⟨m3, b3, hA3⟩ := hA9
      obtain ⟨t3, rfl, -⟩ := hA3.head
      refine j_callV1 o (ctJ2_addAll hG _ hA (hA2.mono (fun _ => jmr)) (fun x hx => (hel x (List.mem_of_mem_take hx)).mono (fun _ => jmr)) (fun x hx => (hel x (List.mem_of_mem_drop (List.mem_of_mem_take hx))).mono (fun _ => jmr)) (by rw [List.length_take, pgE_len]; omega)) dX4_all_36 q567 wdJ2_addAll mdJ2_addAll (jw 0 0 rfl rfl) (by rfl) (by rfl) rfl (Nat.le_of_ble_eq_true rfl) (Nat.le_of_ble_eq_true rfl) (by rw [List.length_take, pgE_len]; omega) (Nat.le_of_ble_eq_true rfl) (q := 39) rfl (fun v wd hpost => ?_)
      obtain ⟨⟨z, rfl⟩, w2, rfl, hA4⟩ := hpost
      dsimp only [List.cons_append, List.nil_append, Option.toList]
      rw [take_pg] at hA4
      refine j_pop o dX4_all_39 rfl (q := 40) rfl ?_
      refine j_inc2 o (nI (k + 1)) dX4_all_40 (by first | exact nI_1 _ | exact pk_m1 _ | rfl) rfl (q := 43) rfl ?_
      refine j_goto o 10 dX4_all_43 (by decide) ?_
      exact ih (k + 1) _ a w2 (by omega) hA4 (by rw [List.length_take, pgE_len]; omega)
  have hub : uBall cap es.length pages.length = 1 + uBA cap es.length pages.length 0 := rfl
  refine j_new o (fs := fdJ2) 1 dX4_all_0 kcJ2 q180 q134 q69 dfJ2 (by omega) (by decide) (q := 3) rfl (fun a hb_a => ?_)
  refine j_dup o dX4_all_3 rfl (q := 4) rfl ?_
  refine j_callI1 o (ctJ2_init hG _ a) dX4_all_4 q181 wdJ2_init mdJ2_init rfl rfl (Nat.le_of_ble_eq_true rfl) (Nat.le_of_ble_eq_true rfl) (by omega) (Nat.le_of_ble_eq_true rfl) (q := 7) rfl (fun v wd hpost => ?_)
  obtain ⟨rfl, w, rfl, hA⟩ := hpost
  dsimp only [List.cons_append, List.nil_append, Option.toList]
  refine j_ast1 o dX4_all_7 rfl rfl (hN 1 (Nat.le_of_ble_eq_true rfl)) (q := 8) rfl ?_
  refine j_iconst o (nI 0) dX4_all_8 (by decide) (q := 9) rfl ?_
  refine j_ist2 o dX4_all_9 rfl (hN 2 (Nat.le_of_ble_eq_true rfl)) (q := 10) rfl ?_
  exact loop ps.length 0 _ a w (by omega) (by rw [Nat.zero_mul, List.take_zero]; exact hA) (by rw [hlen, hub]; omega)
theorem ctX4_lets {l : Launch} {g : jG} (hG : GS l g) (bg : va_W) {qb ch fl h : Nat} (hb : (qb, bkO ch fl) ∈ bg) (hf : fl < 2 ^ 16) (hh : h < 2 ^ 31) : KX4_lets l g 2 0 [.ref qb, .int (nI h)] bg [] (fun v wd => v = some (.int (nI (if fl &&& mrk h = mrk h then 1 else 0))) ∧ wd = []) := by
  have hm := mrk_lt h
  have hle : fl &&& mrk h ≤ fl := Nat.and_le_left
  refine Ctr.of [some (.ref qb), some (.int (nI h))] hG (by decide +kernel) rfl (Nat.le_of_ble_eq_true rfl) (fun Y hl hN0 o r hI => ?_)
  subst hl
  have hN : ∀ i, i < 2 → i < yN Y := fun i h => by rw [hN0]; exact h
  refine j_ald_n o dX4_lets_0 rfl rfl (q := 1) rfl ?_
  refine j_gf o dX4_lets_1 (jb hb) kcX4 1 (Nat.le_of_ble_eq_true rfl) q185 rfl (q := 4) rfl ?_
  refine j_ild_n o dX4_lets_4 rfl (q := 5) rfl ?_
  refine j_callSN0 o (ctX1_marks hG _ hh) dX4_lets_5 q652 wdX1_marks mdX1_marks rfl (Nat.le_of_ble_eq_true rfl) (Nat.le_of_ble_eq_true rfl) (by omega) (Nat.le_of_ble_eq_true rfl) (q := 8) rfl (fun v wd hpost => ?_)
  obtain ⟨rfl, rfl⟩ := hpost
  dsimp only [List.cons_append, List.nil_append, Option.toList]
  refine j_iand o dX4_lets_8 (q := 9) rfl ?_
  refine j_topi o (nI (fl &&& mrk h)) (nI_and _ _) ?_
  refine j_ild_n o dX4_lets_9 rfl (q := 10) rfl ?_
  refine j_callSN0 o (ctX1_marks hG _ hh) dX4_lets_10 q652 wdX1_marks mdX1_marks rfl (Nat.le_of_ble_eq_true rfl) (Nat.le_of_ble_eq_true rfl) (by omega) (Nat.le_of_ble_eq_true rfl) (q := 13) rfl (fun v wd hpost => ?_)
  obtain ⟨rfl, rfl⟩ := hpost
  dsimp only [List.cons_append, List.nil_append, Option.toList]
  refine j_icne o 20 dX4_lets_13 (by decide) (q := 16) rfl (fun c => ?_) (fun c => ?_)
  · have c : ¬ fl &&& mrk h = mrk h := fun e => c (by rw [e])
    refine j_iconst o (nI 0) dX4_lets_20 (by decide) (q := 21) rfl ?_
    exact j_ret o r dX4_lets_21 rfl [] _ rfl (⟨by rw [if_neg c], rfl⟩) (by omega)
  · have c : fl &&& mrk h = mrk h := (nI_eq (by omega) (by omega)).mp c
    refine j_iconst o (nI 1) dX4_lets_16 (by decide) (q := 17) rfl ?_
    refine j_goto o 21 dX4_lets_17 (by decide) ?_
    exact j_ret o r dX4_lets_21 rfl [] _ rfl (⟨by rw [if_pos c], rfl⟩) (by omega)
/-- the first place of x in a list -/
def jFst (ks : List Nat) (x i : Nat) : Prop := ks[i]? = some x ∧ ∀ j, j < i → ks[j]? ≠ some x
theorem jFst.uniq {ks : List Nat} {x i j : Nat} (h1 : jFst ks x i) (h2 : jFst ks x j) : i = j := by
  rcases Nat.lt_trichotomy i j with h | h | h
  · exact absurd h1.1 (h2.2 i h)
  · exact h
  · exact absurd h2.1 (h1.2 j h)
theorem map_pg {α β : Type} (f : α → β) (cap : Nat) (rs : List α) (j : Nat) : (pgE cap rs j).map f = pgE cap (rs.map f) j := by simp [pgE, List.map_take, List.map_drop]
theorem ctX4_pageOf {l : Launch} {g : jG} (hG : GS l g) (bg : va_W) {qb ch fl cap key : Nat} {es ps pages : List Nat} {rs : List Row} (hb : (qb, bkO ch fl) ∈ bg) (hc : ALR g bg ch ps) (hps : pgsR g bg cap ps pages es) (hE : entR bg es rs) (hk : es.length ≤ pages.length * cap) (hc0 : 0 < cap) (hl9 : es.length < 2 ^ 18) (hkey : key < 2 ^ 31) (hks : ∀ r ∈ rs, r.1 < 2 ^ 31) : KX4_pageOf l g 5 0 [.ref qb, .int (nI key)] bg [] (fun v wd => ((∃ i p, jFst (rs.map (·.1)) key i ∧ ps[i / cap]? = some p ∧ v = some (.ref p)) ∨ (key ∉ rs.map (·.1) ∧ v = some .null)) ∧ wd = []) := by
  obtain ⟨m, b, hq, h0, h⟩ := id hc
  have hlen := hps.1
  have hlen2 := hE.1
  refine Ctr.of [some (.ref qb), some (.int (nI key)), none] hG (by decide +kernel) rfl (Nat.le_of_ble_eq_true rfl) (fun Y hl hN0 o r hI => ?_)
  subst hl
  have hN : ∀ i, i < 3 → i < yN Y := fun i h => by rw [hN0]; exact h
  have loop : ∀ d k, k + d = ps.length → (∀ j, j < k * cap → (rs.map (·.1))[j]? ≠ some key) → J g Y [] 0 2 [some (.ref qb), some (.int (nI key)), some (.int (nI k))] [] := by
    intro d
    induction d with
    | zero =>
      intro k hk9 hno
      refine j_ild_n o dX4_pageOf_2 rfl (q := 3) rfl ?_
      refine j_ald_n o dX4_pageOf_3 rfl rfl (q := 4) rfl ?_
      refine j_gf o dX4_pageOf_4 (jb hb) kcX4 0 (Nat.le_of_ble_eq_true rfl) q182 rfl (q := 7) rfl ?_
      refine j_callV0 o (ctJ2_size hG _ (jmr hq)) dX4_pageOf_7 q511 wdJ2_size mdJ2_size (jb hq) (by rfl) (by rfl) rfl (Nat.le_of_ble_eq_true rfl) (Nat.le_of_ble_eq_true rfl) (by omega) (Nat.le_of_ble_eq_true rfl) (q := 10) rfl (fun v wd hpost => ?_)
      obtain ⟨rfl, rfl⟩ := hpost
      dsimp only [List.cons_append, List.nil_append, Option.toList]
      refine j_icgeT o 50 dX4_pageOf_10 (by decide) (nI_le (by omega) (by omega)) ?_
      refine j_null o dX4_pageOf_50 (q := 51) rfl ?_
      exact j_aret o r dX4_pageOf_51 (by first | exact Or.inl ⟨_, rfl⟩ | exact Or.inr ⟨_, rfl⟩) rfl [] _ rfl (⟨Or.inr ⟨fun hm => by obtain ⟨i, hi⟩ := List.getElem?_of_mem hm; exact hno i (by have := (List.getElem?_eq_some_iff.mp hi).1; simp at this; rw [show k = pages.length by omega]; omega) hi, rfl⟩, rfl⟩) (by omega)
    | succ d ih =>
      intro k hk9 hno
      obtain ⟨p, hp⟩ : ∃ p, ps[k]? = some p := ⟨_, List.getElem?_eq_getElem (by omega)⟩
      obtain ⟨n, rl, hn, hpc, hA⟩ := hps.2 k p hp
      refine j_ild_n o dX4_pageOf_2 rfl (q := 3) rfl ?_
      refine j_ald_n o dX4_pageOf_3 rfl rfl (q := 4) rfl ?_
      refine j_gf o dX4_pageOf_4 (jb hb) kcX4 0 (Nat.le_of_ble_eq_true rfl) q182 rfl (q := 7) rfl ?_
      refine j_callV0 o (ctJ2_size hG _ (jmr hq)) dX4_pageOf_7 q511 wdJ2_size mdJ2_size (jb hq) (by rfl) (by rfl) rfl (Nat.le_of_ble_eq_true rfl) (Nat.le_of_ble_eq_true rfl) (by omega) (Nat.le_of_ble_eq_true rfl) (q := 10) rfl (fun v wd hpost => ?_)
      obtain ⟨rfl, rfl⟩ := hpost
      dsimp only [List.cons_append, List.nil_append, Option.toList]
      refine j_icgeF o (t := 50) dX4_pageOf_10 (by decide) (q := 13) rfl (nI_ge (by omega) (by omega)) ?_
      refine j_ald_n o dX4_pageOf_13 rfl rfl (q := 14) rfl ?_
      refine j_gf o dX4_pageOf_14 (jb hb) kcX4 0 (Nat.le_of_ble_eq_true rfl) q182 rfl (q := 17) rfl ?_
      refine j_ild_n o dX4_pageOf_17 rfl (q := 18) rfl ?_
      refine j_callV0 o (ctJ2_get hG _ (hc.mono (fun _ => jmr)) hp) dX4_pageOf_18 q512 wdJ2_get mdJ2_get (jb hq) (by rfl) (by rfl) rfl (Nat.le_of_ble_eq_true rfl) (Nat.le_of_ble_eq_true rfl) (by omega) (Nat.le_of_ble_eq_true rfl) (q := 21) rfl (fun v wd hpost => ?_)
      obtain ⟨rfl, rfl⟩ := hpost
      dsimp only [List.cons_append, List.nil_append, Option.toList]
      refine j_castS (r := (RX5, TX5, 2)) o dX4_pageOf_21 q513 (jb hpc) (ci := 5) rfl (q := 24) rfl ?_
      refine j_ild_n o dX4_pageOf_24 rfl (q := 25) rfl ?_
      refine j_callSN0 o (ctX1_placeIn hG _ (jmr hpc) (hA.mono (fun _ => jmr)) ((hE.pg cap k).mono (fun _ => jmr)) hkey (fun r hr => hks r (List.mem_of_mem_drop (List.mem_of_mem_take hr)))) dX4_pageOf_25 q514 wdX1_placeIn mdX1_placeIn rfl (Nat.le_of_ble_eq_true rfl) (Nat.le_of_ble_eq_true rfl) (by omega) (Nat.le_of_ble_eq_true rfl) (q := 28) rfl (fun v wd hpost => ?_)
      obtain ⟨x, rfl, hx, rfl⟩ := hpost
      dsimp only [List.cons_append, List.nil_append, Option.toList]
      rw [map_pg] at hx
      rcases hx with ⟨i, hi, hi1, hi2, rfl⟩ | ⟨hi, rfl⟩
      · rw [pgE_len, List.length_map] at hi
        have hic : i < cap := by omega
        rw [pgE_get hic] at hi1
        refine j_iconst o (-1) dX4_pageOf_28 (by decide) (q := 29) rfl ?_
        refine j_iceqF o (t := 44) dX4_pageOf_29 (by decide) (q := 32) rfl (fun h => nI_pos (n := i) (by omega) (by rw [h]; decide)) ?_
        refine j_ald_n o dX4_pageOf_32 rfl rfl (q := 33) rfl ?_
        refine j_gf o dX4_pageOf_33 (jb hb) kcX4 0 (Nat.le_of_ble_eq_true rfl) q182 rfl (q := 36) rfl ?_
        refine j_ild_n o dX4_pageOf_36 rfl (q := 37) rfl ?_
        refine j_callV0 o (ctJ2_get hG _ (hc.mono (fun _ => jmr)) hp) dX4_pageOf_37 q512 wdJ2_get mdJ2_get (jb hq) (by rfl) (by rfl) rfl (Nat.le_of_ble_eq_true rfl) (Nat.le_of_ble_eq_true rfl) (by omega) (Nat.le_of_ble_eq_true rfl) (q := 40) rfl (fun v wd hpost => ?_)
        obtain ⟨rfl, rfl⟩ := hpost
        dsimp only [List.cons_append, List.nil_append, Option.toList]
        refine j_castS (r := (RX5, TX5, 2)) o dX4_pageOf_40 q513 (jb hpc) (ci := 5) rfl (q := 43) rfl ?_
        have hdiv : (k * cap + i) / cap = k := by rw [Nat.mul_comm, Nat.mul_add_div hc0, Nat.div_eq_of_lt hic, Nat.add_zero]
        have hF : jFst (rs.map (·.1)) key (k * cap + i) := ⟨hi1, fun j hj => by
          rcases Nat.lt_or_ge j (k * cap) with h9 | h9
          · exact hno j h9
          · have h8 := hi2 (j - k * cap) (by omega)
            rw [pgE_get (by omega), show k * cap + (j - k * cap) = j by omega] at h8
            exact h8⟩
        exact j_aret o r dX4_pageOf_43 (by first | exact Or.inl ⟨_, rfl⟩ | exact Or.inr ⟨_, rfl⟩) rfl [] _ rfl (⟨Or.inl ⟨k * cap + i, p, hF, by rw [hdiv]; exact hp, rfl⟩, rfl⟩) (by omega)
      · refine j_iconst o (-1) dX4_pageOf_28 (by decide) (q := 29) rfl ?_
        refine j_iceqT o 44 dX4_pageOf_29 (by decide) rfl ?_
        refine j_inc2 o (nI (k + 1)) dX4_pageOf_44 (by first | exact nI_1 _ | exact pk_m1 _ | rfl) rfl (q := 47) rfl ?_
        refine j_goto o 2 dX4_pageOf_47 (by decide) ?_
        refine ih (k + 1) (by omega) (fun j hj => ?_)
        rcases Nat.lt_or_ge j (k * cap) with h9 | h9
        · exact hno j h9
        · intro e
          refine hi (List.mem_of_getElem? (i := j - k * cap) ?_)
          rw [Nat.succ_mul] at hj
          rw [pgE_get (by omega), show k * cap + (j - k * cap) = j by omega]
          exact e
  refine j_iconst o (nI 0) dX4_pageOf_0 (by decide) (q := 1) rfl ?_
  refine j_ist2 o dX4_pageOf_1 rfl (hN 2 (Nat.le_of_ble_eq_true rfl)) (q := 2) rfl ?_
  exact loop ps.length 0 (by omega) (fun j hj => by omega)

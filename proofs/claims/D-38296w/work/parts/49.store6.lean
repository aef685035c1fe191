/-! THE STORE, sixth: merge -/
set_option maxRecDepth 100000
theorem bse_dn {m : Nat} (hm : 2 ≤ m) : (ptr (m + 1) = 0 → lvl (m + 1) - 1 = lvl m ∧ 1 ≤ lvl (m + 1) ∧ ptr m + 1 = 2 * 2 ^ lvl m) ∧ (ptr (m + 1) ≠ 0 → lvl (m + 1) = lvl m ∧ ptr (m + 1) = ptr m + 1) := by
  obtain ⟨h1, h2⟩ := bse_up hm
  have h3 := bse_lvl hm
  by_cases h : ptr m + 1 = bse m
  · obtain ⟨a1, a2⟩ := h1 h
    exact ⟨fun _ => ⟨by omega, by omega, by omega⟩, fun e => absurd a2 e⟩
  · obtain ⟨a1, a2⟩ := h2 h
    exact ⟨fun e => by omega, fun _ => ⟨a1, a2⟩⟩
theorem isBks_pop {g : jG} {cap : Nat} {qs : List Nat} {B0 : List Bkt} {b : Bkt} {ess : List (List Nat)} {wsb : List va_W} (h : isBks g cap qs (B0 ++ [b]) ess wsb) : ∃ qs0 qb ess0 es wsb0 wb, qs = qs0 ++ [qb] ∧ ess = ess0 ++ [es] ∧ wsb = wsb0 ++ [wb] ∧ isBk g cap qb es b.2.1 b.2.2 wb ∧ isBks g cap qs0 B0 ess0 wsb0 := by
  obtain ⟨h1, h2, h3, h4⟩ := h
  simp at h1 h2 h3
  have s : ∀ {α : Type} (xs : List α), xs.length = B0.length + 1 → ∃ x0 x, xs = x0 ++ [x] := fun xs h => ⟨xs.dropLast, xs.getLast (by intro e; rw [e] at h; simp at h), (List.dropLast_concat_getLast _).symm⟩
  obtain ⟨qs0, qb, rfl⟩ := s qs h1
  obtain ⟨ess0, es, rfl⟩ := s ess h2
  obtain ⟨wsb0, wb, rfl⟩ := s wsb h3
  simp at h1 h2 h3
  refine ⟨qs0, qb, ess0, es, wsb0, wb, rfl, rfl, rfl, h4 B0.length qb b es wb (by rw [← h1]; simp) (by simp) (by rw [← h2]; simp) (by rw [← h3]; simp), h1, h2, h3, fun i qi bi ei wi a1 a2 a3 a4 => ?_⟩
  have l1 := get_lt a1
  have l2 := get_lt a2
  have l3 := get_lt a3
  have l4 := get_lt a4
  exact h4 i qi bi ei wi (by rw [List.getElem?_append_left l1]; exact a1) (by rw [List.getElem?_append_left l2]; exact a2) (by rw [List.getElem?_append_left l3]; exact a3) (by rw [List.getElem?_append_left l4]; exact a4)
theorem orf_snoc {ch sd : Nat} {rs : List Row} {r : Row} : orf ch sd (rs ++ [r]) = orf ch sd rs ||| mrk (hsh ch sd r.1) := by simp [orf, List.foldl_append]
theorem orf_lt {ch sd : Nat} (rs : List Row) : orf ch sd rs < 2 ^ 16 := by
  have : ∀ (rs : List Row) (a : Nat), a < 2 ^ 16 → rs.foldl (fun a r => a ||| mrk (hsh ch sd r.1)) a < 2 ^ 16 := by
    intro rs
    induction rs with
    | nil => intro a h; exact h
    | cons r rs ih => intro a h; exact ih _ (Nat.or_lt_two_pow h (mrk_lt _))
  exact this rs 0 (by omega)
def reF (ch sd : Nat) (b : Bkt) : Bkt := (b.1, b.2.1, orf ch sd b.1)
theorem mrgB_snoc {cap ch sd : Nat} {B0 : List Bkt} {b : Bkt} : mrgB cap ch sd (B0 ++ [b]) = apAll cap ch sd (B0.set (ptr B0.length) (reF ch sd (bAt B0 (ptr B0.length)))) b.1 := by
  unfold mrgB
  have e : (bAt (B0 ++ [b]) ((B0 ++ [b]).length - 1)) = b := bAt_get (by simp)
  rw [List.dropLast_concat, e]
  rfl
def uMrg (cap ch sd : Nat) (B0 : List Bkt) (b : Bkt) : Nat := uBall cap b.1.length b.2.1.length + uBall cap (bAt B0 (ptr B0.length)).1.length (bAt B0 (ptr B0.length)).2.1.length + uApS cap ch sd (B0.set (ptr B0.length) (reF ch sd (bAt B0 (ptr B0.length)))) b.1
theorem entB_pop {S : va_W} {ess0 : List (List Nat)} {es : List Nat} {B0 : List Bkt} {b : Bkt} (h : entB S (ess0 ++ [es]) (B0 ++ [b])) : entB S ess0 B0 ∧ entR S es b.1 := by
  have h1 := h.1
  simp at h1
  refine ⟨⟨h1, fun i e2 b2 a1 a2 => ?_⟩, h.2 B0.length es b (by rw [← h1]; simp) (by simp)⟩
  exact h.2 i e2 b2 (by rw [List.getElem?_append_left (get_lt a1)]; exact a1) (by rw [List.getElem?_append_left (get_lt a2)]; exact a2)
theorem fits.pop {cap more : Nat} {B0 : List Bkt} {b : Bkt} (h : fits cap (B0 ++ [b]) more) (h2 : 2 ≤ B0.length) : fits cap B0 (b.1.length + more) := by
  obtain ⟨h1, h3, h4, h5, h6, h7, h8⟩ := h
  rw [rws_snoc] at h6
  simp at h5
  refine ⟨h1, h3, h2, by omega, by omega, fun c hc => h7 c (by simp [hc]), fun c hc => h8.1 c (by simp [hc]), fun i j c d k a1 a2 a3 a4 => ?_⟩
  exact h8.2 i j c d k (by rw [List.getElem?_append_left (get_lt a1)]; exact a1) (by rw [List.getElem?_append_left (get_lt a2)]; exact a2) a3 a4
theorem fits.reFl {cap more i ch sd : Nat} {B : List Bkt} (h : fits cap B more) (hi : i < B.length) : fits cap (B.set i (reF ch sd (bAt B i))) more := by
  obtain ⟨h1, h2, h3, h4, h5, h6, h7⟩ := h
  have hB := bAt_ex hi
  have hr := rws_set (b := reF ch sd (bAt B i)) hi
  have e : (reF ch sd (bAt B i)).1.length = (bAt B i).1.length := rfl
  obtain ⟨k1, k2, k3, k4, k5⟩ := h6.at hi
  exact ⟨h1, h2, by simpa using h3, by simpa using h4, by omega, h6.set ⟨k1, k2, k3, orf_lt _, k5⟩, h7.set (show (bAt B i).2.1.Nodup from h7.1 _ (List.mem_of_getElem? hB)) (fun j c k hj hc hk hk2 => hj (h7.2 j i c _ k hc hB hk2 hk))⟩
theorem usd_reF {i k ch sd : Nat} {B : List Bkt} (hi : i < B.length) : k ∈ usd (B.set i (reF ch sd (bAt B i))) ↔ k ∈ usd B := by
  rw [mem_usd_app (X := []) hi (by rw [List.append_nil]; rfl)]
  simp
theorem usd_pop {B0 : List Bkt} {b : Bkt} {n k : Nat} (h : ndB (B0 ++ [b])) (h1 : 1 ≤ b.2.1.length) (hn : (b.2.1.take 1)[0]? = some n) : k ∈ usd B0 ↔ k ≠ n ∧ k ∈ (usd (B0 ++ [b])).filter (fun k => decide (k ∉ b.2.1.drop 1)) := by
  have hb : (B0 ++ [b])[B0.length]? = some b := by simp
  have hn2 : b.2.1.take 1 = [n] := by
    have hl : (b.2.1.take 1).length = 1 := by rw [List.length_take]; omega
    match hx : b.2.1.take 1, hl with
    | [x], _ =>
      rw [hx] at hn
      simpa using hn
  have hm : ∀ x, x ∈ b.2.1 ↔ x = n ∨ x ∈ b.2.1.drop 1 := by
    intro x
    have := List.take_append_drop 1 b.2.1
    rw [hn2] at this
    constructor
    · intro h; rw [← this] at h; simpa using h
    · intro h; rw [← this]; simpa using h
  rw [List.mem_filter, decide_eq_true_eq, usd_snoc, List.mem_append]
  constructor
  · intro hk
    obtain ⟨j, c, a1, a2⟩ := mem_usd.mp hk
    have hlt := get_lt a1
    have hno : k ∉ b.2.1 := fun h3 => by
      have := h.2 j B0.length c b k (by rw [List.getElem?_append_left hlt]; exact a1) hb a2 h3
      omega
    rw [hm] at hno
    exact ⟨fun e => hno (Or.inl e), Or.inl hk, fun e => hno (Or.inr e)⟩
  · rintro ⟨a1, a2 | a2, a3⟩
    · exact a2
    · rcases (hm k).mp a2 with a4 | a4
      · exact absurd a4 a1
      · exact absurd a4 a3
theorem ctX2_merge {l : Launch} {g : jG} (hG : GS l g) (bg : va_W) {q sz hs ch sd cap lo up s1 s2 : Nat} {B0 : List Bkt} {b : Bkt} {ess : List (List Nat)} {w : va_W} (hS : isSt g hs q (cap, lo, up, s1, s2) (lvl (B0.length + 1)) (ptr (B0.length + 1)) sz (B0 ++ [b]) ess w) (hE : entB bg ess (B0 ++ [b])) (hh : (hs, hsO ch sd) ∈ bg) (hf : fits cap (B0 ++ [b]) 0) (h2n : 2 ≤ B0.length) (hc : ch < 1024) (hs9 : sd < 10) (hk : ∀ r ∈ b.1, r.1 < 2 ^ 31) (hk2 : ∀ r ∈ (bAt B0 (ptr B0.length)).1, r.1 < 2 ^ 31) : KX2_merge l g 10 (uMrg cap ch sd B0 b) [.ref q] bg [w] (fun v wd => v = none ∧ ∃ ess2 w2, wd = [w2] ∧ isSt g hs q (cap, lo, up, s1, s2 + 1) (lvl B0.length) (ptr B0.length) sz (mrgB cap ch sd (B0 ++ [b])) ess2 w2 ∧ ∀ S, entB S ess (B0 ++ [b]) → entB S ess2 (mrgB cap ch sd (B0 ++ [b]))) := by
  rw [mrgB_snoc]
  have f0 := hf.pop h2n
  have f1 := hf.1
  have f4 := hf.2.2.2.1
  have f5 := hf.2.2.2.2.1
  have hwf := hf.2.2.2.2.2.1
  have hnd := hf.2.2.2.2.2.2
  rw [rws_snoc] at f5
  simp at f4
  have hU : uMrg cap ch sd B0 b = uBall cap b.1.length b.2.1.length + uBall cap (bAt B0 (ptr B0.length)).1.length (bAt B0 (ptr B0.length)).2.1.length + uApS cap ch sd (B0.set (ptr B0.length) (reF ch sd (bAt B0 (ptr B0.length)))) b.1 := rfl
  have hi : ptr B0.length < B0.length := (by have := bse_ptr (n := B0.length) (by omega); have := bse_pos B0.length; omega)
  have hrw := rws_at hi
  have hlv := lvl_lt (n := B0.length) (by omega)
  have hlv1 := lvl_lt (n := B0.length + 1) (by omega)
  have hpl := ptr_le (n := B0.length)
  have hpl1 := ptr_le (n := B0.length + 1)
  have hpgl : ∀ c : Bkt, wfK cap c → c.1.length ≤ 60 → c.2.1.length < 2 ^ 16 := by
    intro c ⟨k1, k2, k3, k4, k5⟩ hc
    rcases k3 with k3 | k3
    · omega
    · have : (c.2.1.length - 1) * 2 ≤ (c.2.1.length - 1) * cap := Nat.mul_le_mul_left _ f1
      omega
  have hwb := hwf b (by simp)
  have hpgb := hpgl b hwb (by omega)
  obtain ⟨k1, k2, k3, k4, k5⟩ := hwb
  have hwl := f0.2.2.2.2.2.1.at hi
  have hpgL := hpgl _ hwl (by omega)
  obtain ⟨k1L, k2L, k3L, k4L, k5L⟩ := hwl
  obtain ⟨bl, tk, qs, wbl, wsb, hperm, hA, hBk⟩ := hS
  obtain ⟨qs0, qb, ess0, es, wsb0, wb, rfl, rfl, rfl, hB1, hBk0⟩ := isBks_pop hBk
  have hql := hBk0.1
  have hER := (entB_pop hE).2
  have hE0 := (entB_pop hE).1
  have hu1 : uBall cap es.length b.2.1.length = uBall cap b.1.length b.2.1.length := by rw [hER.1]
  obtain ⟨ql, hqL⟩ := get_ex (xs := qs0) (i := ptr B0.length) (by omega)
  obtain ⟨esL, wL, R, hesL, hp1, hBL, hcl⟩ := isBks_open hBk0 hqL
  have hERL := hE0.2 _ esL _ hesL (bAt_ex hi)
  have hu2 : uBall cap esL.length (bAt B0 (ptr B0.length)).2.1.length = uBall cap (bAt B0 (ptr B0.length)).1.length (bAt B0 (ptr B0.length)).2.1.length := by rw [hERL.1]
  have hperm2 : w.Perm (jflat [[(tk, tkO g (usd (B0 ++ [b])))], wb, [(q, stO (cap, lo, up, s1, s2) (lvl (B0.length + 1)) (ptr (B0.length + 1)) sz hs bl tk)], wbl, wL, R]) := (by letI : DecidableEq (Nat × va_E) := fun _ _ => Classical.propDecidable _; exact List.perm_iff_count.mpr (fun a_ => by have e0_ := List.Perm.count_eq (hperm) a_; have e1_ := List.Perm.count_eq (hp1) a_; simp only [List.flatten_cons, List.flatten_nil, jflat, List.cons_append, List.nil_append, List.count_append, List.count_cons, List.append_nil, List.count_nil, List.flatten_append, bkO, pgO, stO, eO, tkO, eA] at e0_ e1_ ⊢; omega))
  have hAr : ALR g wbl bl (qs0 ++ [qb]) := hA.r (fun c hc => hc)
  obtain ⟨m5, b5, hz5, -⟩ := id hAr
  obtain ⟨cb0, ps0, hb0, -⟩ := hB1.r (S := wb) (fun _ h => h)
  have hdn := bse_dn h2n
  have hq2 : (qs0 ++ [qb]).length = qs0.length + 1 := by simp
  refine Ctr.of [some (.ref q), none, none, none, none, none] hG (by decide +kernel) rfl (Nat.le_of_ble_eq_true rfl) (fun Y hl hN0 o r hI => ?_)
  subst hl
  have hN : ∀ i, i < 6 → i < yN Y := fun i h => by rw [hN0]; exact h
  refine j_spP _ (hperm2) ?_
  dsimp only [List.cons_append, List.nil_append]
  have fin : ∀ pt, pt = ptr B0.length + 1 → J g Y [[(tk, tkO g (usd (B0 ++ [b])))], wb, [(q, stO (cap, lo, up, s1, s2) (lvl B0.length) pt sz hs bl tk)], wbl, wL, R] 0 25 [some (.ref q), none, none, none, none, none] [] := by
    intro pt hpt
    subst hpt
    refine j_ald_n o dX2_merge_25 rfl rfl (q := 26) rfl ?_
    refine j_dup o dX2_merge_26 rfl (q := 27) rfl ?_
    refine j_gf o dX2_merge_27 (jw 2 0 rfl rfl) kcX2 4 (Nat.le_of_ble_eq_true rfl) q299 rfl (q := 30) rfl ?_
    refine j_iconst o (nI 1) dX2_merge_30 (by decide) (q := 31) rfl ?_
    refine j_isub o dX2_merge_31 (q := 32) rfl ?_
    refine j_topi o (nI (ptr B0.length)) (pk_sub (by omega)) ?_
    refine j_pf o dX2_merge_32 2 0 rfl rfl kcX2 4 (Nat.le_of_ble_eq_true rfl) q299 rfl rfl rfl (Nat.le_of_ble_eq_true rfl) (q := 35) rfl ?_
    dsimp only [List.set]
    refine j_ald_n o dX2_merge_35 rfl rfl (q := 36) rfl ?_
    refine j_gf o dX2_merge_36 (jw 2 0 rfl rfl) kcX2 9 (Nat.le_of_ble_eq_true rfl) q309 rfl (q := 39) rfl ?_
    refine j_ald_n o dX2_merge_39 rfl rfl (q := 40) rfl ?_
    refine j_gf o dX2_merge_40 (jw 2 0 rfl rfl) kcX2 9 (Nat.le_of_ble_eq_true rfl) q309 rfl (q := 43) rfl ?_
    refine j_callV0 o (ctJ2_size hG _ (jwl 3 rfl hz5)) dX2_merge_43 q417 wdJ2_size mdJ2_size (jwm 3 rfl hz5) (by rfl) (by rfl) rfl (Nat.le_of_ble_eq_true rfl) (Nat.le_of_ble_eq_true rfl) (by omega) (Nat.le_of_ble_eq_true rfl) (q := 46) rfl (fun v wd hpost => ?_)
    obtain ⟨rfl, rfl⟩ := hpost
    dsimp only [List.cons_append, List.nil_append, Option.toList]
    rw [hq2]
    refine j_iconst o (nI 1) dX2_merge_46 (by decide) (q := 47) rfl ?_
    refine j_isub o dX2_merge_47 (q := 48) rfl ?_
    refine j_topi o (nI qs0.length) (pk_sub (by omega)) ?_
    refine j_callV0 o (ctJ2_get hG _ (hAr.mono (fun _ hc => jwl 3 rfl hc)) (x := qb) (by simp)) dX2_merge_48 q418 wdJ2_get mdJ2_get (jwm 3 rfl hz5) (by rfl) (by rfl) rfl (Nat.le_of_ble_eq_true rfl) (Nat.le_of_ble_eq_true rfl) (by omega) (Nat.le_of_ble_eq_true rfl) (q := 51) rfl (fun v wd hpost => ?_)
    obtain ⟨rfl, rfl⟩ := hpost
    dsimp only [List.cons_append, List.nil_append, Option.toList]
    refine j_castS (r := (RX4, TX4, 2)) o dX2_merge_51 q174 (jwm 1 rfl hb0) (ci := 4) rfl (q := 54) rfl ?_
    refine j_ast1 o dX2_merge_54 rfl rfl (hN 1 (Nat.le_of_ble_eq_true rfl)) (q := 55) rfl ?_
    refine j_ald_n o dX2_merge_55 rfl rfl (q := 56) rfl ?_
    refine j_ald_n o dX2_merge_56 rfl rfl (q := 57) rfl ?_
    refine j_callV2 o (ctX2_emptied hG _ (cap := cap) (F := (cap, lo, up, s1, s2)) (jwl 0 rfl List.mem_cons_self) hB1 (fun y hy => (hER.el y hy).mono (fun _ => jmr)) k1 (by rw [hER.1]; exact k2) hpgb (by rw [hER.1]; omega) k5) dX2_merge_57 q559 wdX2_emptied mdX2_emptied (jw 2 0 rfl rfl) (by rfl) (by rfl) rfl (Nat.le_of_ble_eq_true rfl) (Nat.le_of_ble_eq_true rfl) (by omega) (Nat.le_of_ble_eq_true rfl) (q := 60) rfl (fun v wd hpost => ?_)
    obtain ⟨a, wa, wb2, rfl, rfl, hAa, hB2⟩ := hpost
    dsimp only [List.cons_append, List.nil_append, Option.toList]
    obtain ⟨cb, wc, ps, p, n, rl, wl, Rb, hpermb, j4, j5, j6, j7, j8, -⟩ := isBk_page hB2 (j := 0) (by rw [List.length_take]; omega)
    have hzb : ∀ c, c ∈ jflat [[(qb, bkO cb 0)], wc, [(p, pgO n rl)], wl, Rb] → c ∈ wb2 := fun c hc => hpermb.mem_iff.mpr hc
    have hzb1 : (qb, bkO cb 0) ∈ wb2 := hzb _ (by simp [jflat])
    have hzb2 : (p, pgO n rl) ∈ wb2 := hzb _ (by simp [jflat])
    have hzb3 : ALR g wb2 cb ps := j7.r (fun c hc => hzb c (by simp [jflat, hc]))
    have hps1 : ps.length = 1 := by rw [j4, List.length_take]; omega
    have hn9 : n < 96 := k5 n (List.mem_of_mem_take (List.mem_of_getElem? j6))
    refine j_ast2 o dX2_merge_60 rfl rfl (hN 2 (Nat.le_of_ble_eq_true rfl)) (q := 61) rfl ?_
    refine j_ald_n o dX2_merge_61 rfl rfl (q := 62) rfl ?_
    refine j_ald_n o dX2_merge_62 rfl rfl (q := 63) rfl ?_
    refine j_callV0 o (ctX4_last hG _ (jwl 1 rfl hzb1) (hzb3.mono (fun _ hc => jwl 1 rfl hc)) (by rw [hps1]; exact j5) (jwl 1 rfl hzb2)) dX2_merge_63 q518 wdX4_last mdX4_last (jwm 1 rfl hzb1) (by rfl) (by rfl) rfl (Nat.le_of_ble_eq_true rfl) (Nat.le_of_ble_eq_true rfl) (by omega) (Nat.le_of_ble_eq_true rfl) (q := 66) rfl (fun v wd hpost => ?_)
    obtain ⟨rfl, rfl⟩ := hpost
    dsimp only [List.cons_append, List.nil_append, Option.toList]
    refine j_callV1 o (ctX2_free hG _ (F := (cap, lo, up, s1, s2)) (us2 := usd B0) (jwl 2 rfl List.mem_cons_self) (jwl 0 rfl hzb2) hn9 (fun k => usd_pop hnd k1 j6)) dX2_merge_66 q547 wdX2_free mdX2_free (jw 3 0 rfl rfl) (by rfl) (by rfl) rfl (Nat.le_of_ble_eq_true rfl) (Nat.le_of_ble_eq_true rfl) (by omega) (Nat.le_of_ble_eq_true rfl) (q := 69) rfl (fun v wd hpost => ?_)
    obtain ⟨rfl, rfl⟩ := hpost
    dsimp only [List.cons_append, List.nil_append, Option.toList]
    refine j_ald_n o dX2_merge_69 rfl rfl (q := 70) rfl ?_
    refine j_gf o dX2_merge_70 (jw 3 0 rfl rfl) kcX2 9 (Nat.le_of_ble_eq_true rfl) q309 rfl (q := 73) rfl ?_
    refine j_ald_n o dX2_merge_73 rfl rfl (q := 74) rfl ?_
    refine j_gf o dX2_merge_74 (jw 3 0 rfl rfl) kcX2 9 (Nat.le_of_ble_eq_true rfl) q309 rfl (q := 77) rfl ?_
    refine j_callV0 o (ctJ2_size hG _ (jwl 4 rfl hz5)) dX2_merge_77 q417 wdJ2_size mdJ2_size (jwm 4 rfl hz5) (by rfl) (by rfl) rfl (Nat.le_of_ble_eq_true rfl) (Nat.le_of_ble_eq_true rfl) (by omega) (Nat.le_of_ble_eq_true rfl) (q := 80) rfl (fun v wd hpost => ?_)
    obtain ⟨rfl, rfl⟩ := hpost
    dsimp only [List.cons_append, List.nil_append, Option.toList]
    rw [hq2]
    refine j_iconst o (nI 1) dX2_merge_80 (by decide) (q := 81) rfl ?_
    refine j_isub o dX2_merge_81 (q := 82) rfl ?_
    refine j_topi o (nI qs0.length) (pk_sub (by omega)) ?_
    refine j_mv1 ?_
    refine j_drop ?_
    refine j_mv3 ?_
    have hA9 := hA
    obtain ⟨m3, b3, hA3⟩ := hA9
    obtain ⟨t3, e3, -⟩ := hA3.head
    refine j_callV1 o (ctJ2_remove hG _ rfl hA) dX2_merge_82 q534 wdJ2_remove mdJ2_remove (jwm 0 rfl hz5) (by rfl) (by rfl) rfl (Nat.le_of_ble_eq_true rfl) (Nat.le_of_ble_eq_true rfl) (by omega) (Nat.le_of_ble_eq_true rfl) (q := 85) rfl (fun v wd hpost => ?_)
    obtain ⟨rfl, wbl2, rfl, hA2⟩ := hpost
    dsimp only [List.cons_append, List.nil_append, Option.toList]
    obtain ⟨m6, b6, hz6, -⟩ := hA2.r (S := wbl2) (fun c hc => hc)
    obtain ⟨cl, RL, hpL, hclL⟩ := isBk_cell hBL
    refine j_mv4 ?_
    refine j_spP _ (hpL) ?_
    dsimp only [List.cons_append, List.nil_append]
    refine j_pop o dX2_merge_85 rfl (q := 86) rfl ?_
    refine j_ald_n o dX2_merge_86 rfl rfl (q := 87) rfl ?_
    refine j_gf o dX2_merge_87 (jw 5 0 rfl rfl) kcX2 9 (Nat.le_of_ble_eq_true rfl) q309 rfl (q := 90) rfl ?_
    refine j_ald_n o dX2_merge_90 rfl rfl (q := 91) rfl ?_
    refine j_gf o dX2_merge_91 (jw 5 0 rfl rfl) kcX2 4 (Nat.le_of_ble_eq_true rfl) q299 rfl (q := 94) rfl ?_
    refine j_callV0 o (ctJ2_get hG _ ((hA2.r (S := wbl2) (fun c hc => hc)).mono (fun _ hc => jwl 2 rfl hc)) hqL) dX2_merge_94 q418 wdJ2_get mdJ2_get (jwm 2 rfl hz6) (by rfl) (by rfl) rfl (Nat.le_of_ble_eq_true rfl) (Nat.le_of_ble_eq_true rfl) (by omega) (Nat.le_of_ble_eq_true rfl) (q := 97) rfl (fun v wd hpost => ?_)
    obtain ⟨rfl, rfl⟩ := hpost
    dsimp only [List.cons_append, List.nil_append, Option.toList]
    refine j_castS (r := (RX4, TX4, 2)) o dX2_merge_97 q174 (jw 0 0 rfl rfl) (ci := 4) rfl (q := 100) rfl ?_
    refine j_ast3 o dX2_merge_100 rfl rfl (hN 3 (Nat.le_of_ble_eq_true rfl)) (q := 101) rfl ?_
    refine j_ald_n o dX2_merge_101 rfl rfl (q := 102) rfl ?_
    refine j_iconst o (nI 0) dX2_merge_102 (by decide) (q := 103) rfl ?_
    refine j_pf o dX2_merge_103 0 0 rfl rfl kcX4 1 (Nat.le_of_ble_eq_true rfl) q186 rfl rfl rfl (Nat.le_of_ble_eq_true rfl) (q := 106) rfl ?_
    dsimp only [List.set]
    refine j_mgN [_, _] (fun wF hwF => ?_)
    first | dsimp only [List.cons_append, List.nil_append] | skip
    have hBF := hclL 0 wF hwF
    obtain ⟨cF, psF, hF, -⟩ := hBF.r (S := wF) (fun _ h => h)
    refine j_ald_n o dX2_merge_106 rfl rfl (q := 107) rfl ?_
    refine j_callV0 o (ctX4_all hG _ (cap := cap) ((hBF.r (S := wF) (fun _ h => h)).mono (fun _ hc => jwl 0 rfl hc)) (fun y hy => (hERL.el y hy).mono (fun _ => jmr)) (by rw [hERL.1]; exact k2L) (by rw [hERL.1]; omega)) dX2_merge_107 q563 wdX4_all mdX4_all (jwm 0 rfl hF) (by rfl) (by rfl) rfl (Nat.le_of_ble_eq_true rfl) (Nat.le_of_ble_eq_true rfl) (by omega) (Nat.le_of_ble_eq_true rfl) (q := 110) rfl (fun v wd hpost => ?_)
    obtain ⟨ah, wh, rfl, rfl, hAh⟩ := hpost
    dsimp only [List.cons_append, List.nil_append, Option.toList]
    obtain ⟨m7, b7, hz7, h07, -⟩ := hAh.r (S := wh) (fun c hc => hc)
    have hAhr : ALR g wh ah esL := hAh.r (fun c hc => hc)
    have hlL := hERL.1
    have loop : ∀ (d k : Nat) (wF : va_W), k + d = (bAt B0 (ptr B0.length)).1.length → isBk g cap ql esL (bAt B0 (ptr B0.length)).2.1 (orf ch sd ((bAt B0 (ptr B0.length)).1.take k)) wF → J g Y [wh, wF, wbl2, [(tk, tkO g (usd B0))], wa, [(q, stO (cap, lo, up, s1, s2) (lvl B0.length) (ptr B0.length) sz hs bl tk)], R] (uBall cap b.1.length b.2.1.length + uBall cap (bAt B0 (ptr B0.length)).1.length (bAt B0 (ptr B0.length)).2.1.length) 115 [some (.ref q), some (.ref qb), some (.ref a), some (.ref ql), some (.ref ah), some (.int (nI k))] [] := by
      intro d
      induction d with
      | zero =>
        intro k wF hk9 hBF
        have e : (bAt B0 (ptr B0.length)).1.take k = (bAt B0 (ptr B0.length)).1 := List.take_of_length_le (by omega)
        rw [e] at hBF
        obtain ⟨wsb2, hp3, hBk2⟩ := hcl esL (reF ch sd (bAt B0 (ptr B0.length))) wF hBF
        refine j_ild o dX2_merge_115 rfl (q := 117) rfl ?_
        refine j_ald o dX2_merge_117 rfl rfl (q := 119) rfl ?_
        refine j_callV0 o (ctJ2_size hG _ (jwl 0 rfl hz7)) dX2_merge_119 q417 wdJ2_size mdJ2_size (jwm 0 rfl hz7) (by rfl) (by rfl) rfl (Nat.le_of_ble_eq_true rfl) (Nat.le_of_ble_eq_true rfl) (by omega) (Nat.le_of_ble_eq_true rfl) (q := 122) rfl (fun v wd hpost => ?_)
        obtain ⟨rfl, rfl⟩ := hpost
        dsimp only [List.cons_append, List.nil_append, Option.toList]
        refine j_icgeT o 163 dX2_merge_122 (by decide) (nI_le (by omega) (by omega)) ?_
        refine j_drop ?_
        refine j_mv4 ?_
        refine j_mv5 ?_
        refine j_mgN [_, _, _, _, _] (fun w3 hw3 => ?_)
        first | dsimp only [List.cons_append, List.nil_append] | skip
        have hS3 : isSt g hs q (cap, lo, up, s1, s2) (lvl B0.length) (ptr B0.length) sz (B0.set (ptr B0.length) (reF ch sd (bAt B0 (ptr B0.length)))) (ess0.set (ptr B0.length) esL) w3 := ⟨bl, tk, qs0, wbl2, wsb2, (by rw [tkO_congr (fun k => usd_reF hi)]; exact (by letI : DecidableEq (Nat × va_E) := fun _ _ => Classical.propDecidable _; exact List.perm_iff_count.mpr (fun a_ => by have e0_ := List.Perm.count_eq (hw3) a_; have e1_ := List.Perm.count_eq (hp3) a_; simp only [List.flatten_cons, List.flatten_nil, jflat, List.cons_append, List.nil_append, List.count_append, List.count_cons, List.append_nil, List.count_nil, List.flatten_append, bkO, pgO, stO, eO, tkO, eA] at e0_ e1_ ⊢; omega))), hA2, hBk2⟩
        have hE3 : ∀ S, entB S (ess0 ++ [es]) (B0 ++ [b]) → entB S (ess0.set (ptr B0.length) esL) (B0.set (ptr B0.length) (reF ch sd (bAt B0 (ptr B0.length)))) := fun S hE9 => entB_set (entB_pop hE9).1 (show entR S esL (bAt B0 (ptr B0.length)).1 from (entB_pop hE9).1.2 _ esL _ hesL (bAt_ex hi))
        have hq3 : (q, stO (cap, lo, up, s1, s2) (lvl B0.length) (ptr B0.length) sz hs bl tk) ∈ w3 := hw3.mem_iff.mpr (by simp [jflat])
        refine j_ald_n o dX2_merge_163 rfl rfl (q := 164) rfl ?_
        refine j_ald_n o dX2_merge_164 rfl rfl (q := 165) rfl ?_
        refine j_callV1 o (ctX2_appendAll hG _ hS3 ((hE3 bg hE).mono (fun _ => jmr)) (jmr hh) (hAa.r (fun c hc => jwl 0 rfl hc)) (hER.mono (fun _ => jmr)) (by simp) (by simp) (f0.reFl hi) hc hs9 hk) dX2_merge_165 q584 wdX2_appendAll mdX2_appendAll (jwm 0 rfl hq3) (by rfl) (by rfl) rfl (Nat.le_of_ble_eq_true rfl) (Nat.le_of_ble_eq_true rfl) (by omega) (Nat.le_of_ble_eq_true rfl) (q := 168) rfl (fun v wd hpost => ?_)
        obtain ⟨rfl, ess4, w4, rfl, hS4, hE4⟩ := hpost
        dsimp only [List.cons_append, List.nil_append, Option.toList]
        obtain ⟨bl4, tk4, R4, hp4, hcl4⟩ := isSt_cell hS4
        refine j_ald_n o dX2_merge_168 rfl rfl (q := 169) rfl ?_
        refine j_spP _ (hp4) ?_
        dsimp only [List.cons_append, List.nil_append]
        refine j_dup o dX2_merge_169 rfl (q := 170) rfl ?_
        refine j_gf o dX2_merge_170 (jw 0 0 rfl rfl) kcX2 7 (Nat.le_of_ble_eq_true rfl) q305 rfl (q := 173) rfl ?_
        refine j_iconst o (nI 1) dX2_merge_173 (by decide) (q := 174) rfl ?_
        refine j_iadd o dX2_merge_174 (q := 175) rfl ?_
        refine j_topi o (nI (s2 + 1)) (nI_1 _) ?_
        refine j_pf o dX2_merge_175 0 0 rfl rfl kcX2 7 (Nat.le_of_ble_eq_true rfl) q305 rfl rfl rfl (Nat.le_of_ble_eq_true rfl) (q := 178) rfl ?_
        dsimp only [List.set]
        refine j_mgN [_, _] (fun w5 hw5 => ?_)
        first | dsimp only [List.cons_append, List.nil_append] | skip
        exact j_vret o r dX2_merge_178 [_] _ rfl (⟨rfl, ess4, w5, rfl, hcl4 hs (cap, lo, up, s1, s2 + 1) (lvl B0.length) (ptr B0.length) sz w5 rfl (by letI : DecidableEq (Nat × va_E) := fun _ _ => Classical.propDecidable _; exact List.perm_iff_count.mpr (fun a_ => by have e0_ := List.Perm.count_eq (hw5) a_; simp only [List.flatten_cons, List.flatten_nil, jflat, List.cons_append, List.nil_append, List.count_append, List.count_cons, List.append_nil, List.count_nil, List.flatten_append, bkO, pgO, stO, eO, tkO, eA] at e0_ ⊢; omega)), fun S hE9 => hE4 S (hE3 S hE9) (entB_pop hE9).2⟩) (by omega)
      | succ d ih =>
        intro k wF hk9 hBF
        obtain ⟨r9, hr9⟩ := get_ex (xs := (bAt B0 (ptr B0.length)).1) (i := k) (by omega)
        obtain ⟨e9, he9⟩ := get_ex (xs := esL) (i := k) (by omega)
        have hen := hERL.2 k e9 r9 he9 hr9
        have hrk := hk2 r9 (List.mem_of_getElem? hr9)
        have h1 := hsh_lt ch sd r9.1
        have htk : (bAt B0 (ptr B0.length)).1.take (k + 1) = (bAt B0 (ptr B0.length)).1.take k ++ [r9] := by rw [List.take_add_one, hr9]; rfl
        obtain ⟨c2, R2, hp2, hcl2⟩ := isBk_cell hBF
        refine j_ild o dX2_merge_115 rfl (q := 117) rfl ?_
        refine j_ald o dX2_merge_117 rfl rfl (q := 119) rfl ?_
        refine j_callV0 o (ctJ2_size hG _ (jwl 0 rfl hz7)) dX2_merge_119 q417 wdJ2_size mdJ2_size (jwm 0 rfl hz7) (by rfl) (by rfl) rfl (Nat.le_of_ble_eq_true rfl) (Nat.le_of_ble_eq_true rfl) (by omega) (Nat.le_of_ble_eq_true rfl) (q := 122) rfl (fun v wd hpost => ?_)
        obtain ⟨rfl, rfl⟩ := hpost
        dsimp only [List.cons_append, List.nil_append, Option.toList]
        refine j_icgeF o (t := 163) dX2_merge_122 (by decide) (q := 125) rfl (nI_ge (by omega) (by omega)) ?_
        refine j_mv1 ?_
        refine j_spP _ (hp2) ?_
        dsimp only [List.cons_append, List.nil_append]
        refine j_ald_n o dX2_merge_125 rfl rfl (q := 126) rfl ?_
        refine j_dup o dX2_merge_126 rfl (q := 127) rfl ?_
        refine j_gf o dX2_merge_127 (jw 0 0 rfl rfl) kcX4 1 (Nat.le_of_ble_eq_true rfl) q186 rfl (q := 130) rfl ?_
        refine j_ald_n o dX2_merge_130 rfl rfl (q := 131) rfl ?_
        refine j_gf o dX2_merge_131 (jw 6 0 rfl rfl) kcX2 8 (Nat.le_of_ble_eq_true rfl) q307 rfl (q := 134) rfl ?_
        refine j_ald o dX2_merge_134 rfl rfl (q := 136) rfl ?_
        refine j_ild o dX2_merge_136 rfl (q := 138) rfl ?_
        refine j_callV0 o (ctJ2_get hG _ (hAhr.mono (fun _ hc => jwl 2 rfl hc)) he9) dX2_merge_138 q418 wdJ2_get mdJ2_get (jwm 2 rfl hz7) (by rfl) (by rfl) rfl (Nat.le_of_ble_eq_true rfl) (Nat.le_of_ble_eq_true rfl) (by omega) (Nat.le_of_ble_eq_true rfl) (q := 141) rfl (fun v wd hpost => ?_)
        obtain ⟨rfl, rfl⟩ := hpost
        dsimp only [List.cons_append, List.nil_append, Option.toList]
        refine j_castS (r := (RX11, TX11, 2)) o dX2_merge_141 q435 (jb hen) (ci := 11) rfl (q := 144) rfl ?_
        refine j_gf o dX2_merge_144 (jb hen) kcX11 0 (Nat.le_of_ble_eq_true rfl) q448 rfl (q := 147) rfl ?_
        refine j_callV0 o (ctX3_of hG _ (jmr hh) hc hs9 hrk) dX2_merge_147 q492 wdX3_of mdX3_of (jb hh) (by rfl) (by rfl) rfl (Nat.le_of_ble_eq_true rfl) (Nat.le_of_ble_eq_true rfl) (by omega) (Nat.le_of_ble_eq_true rfl) (q := 150) rfl (fun v wd hpost => ?_)
        obtain ⟨rfl, rfl⟩ := hpost
        dsimp only [List.cons_append, List.nil_append, Option.toList]
        refine j_callSN0 o (ctX1_marks hG _ (by omega)) dX2_merge_150 q581 wdX1_marks mdX1_marks rfl (Nat.le_of_ble_eq_true rfl) (Nat.le_of_ble_eq_true rfl) (by omega) (Nat.le_of_ble_eq_true rfl) (q := 153) rfl (fun v wd hpost => ?_)
        obtain ⟨rfl, rfl⟩ := hpost
        dsimp only [List.cons_append, List.nil_append, Option.toList]
        refine j_ior o dX2_merge_153 (q := 154) rfl ?_
        refine j_topi o (nI (orf ch sd ((bAt B0 (ptr B0.length)).1.take k) ||| mrk (hsh ch sd r9.1))) (nI_or _ _) ?_
        rw [← orf_snoc, ← htk]
        refine j_pf o dX2_merge_154 0 0 rfl rfl kcX4 1 (Nat.le_of_ble_eq_true rfl) q186 rfl rfl rfl (Nat.le_of_ble_eq_true rfl) (q := 157) rfl ?_
        dsimp only [List.set]
        refine j_inc5 o (nI (k + 1)) dX2_merge_157 (by first | exact nI_1 _ | exact pk_m1 _ | rfl) rfl (q := 160) rfl ?_
        refine j_goto o 115 dX2_merge_160 (by decide) ?_
        refine j_mgN [_, _] (fun wG hwG => ?_)
        first | dsimp only [List.cons_append, List.nil_append] | skip
        refine j_mv1 ?_
        exact ih (k + 1) wG (by omega) (hcl2 _ wG hwG)
    refine j_ast4 o dX2_merge_110 rfl rfl (hN 4 (Nat.le_of_ble_eq_true rfl)) (q := 112) rfl ?_
    refine j_iconst o (nI 0) dX2_merge_112 (by decide) (q := 113) rfl ?_
    refine j_ist5 o dX2_merge_113 rfl (hN 5 (Nat.le_of_ble_eq_true rfl)) (q := 115) rfl ?_
    refine j_units (u2 := uBall cap b.1.length b.2.1.length + uBall cap (bAt B0 (ptr B0.length)).1.length (bAt B0 (ptr B0.length)).2.1.length) (by omega) ?_
    exact loop _ 0 wF (by rw [Nat.zero_add]) (by rw [List.take_zero]; exact hBF)
  refine j_ald_n o dX2_merge_0 rfl rfl (q := 1) rfl ?_
  refine j_gf o dX2_merge_1 (jw 2 0 rfl rfl) kcX2 4 (Nat.le_of_ble_eq_true rfl) q299 rfl (q := 4) rfl ?_
  refine j_ifne o 25 dX2_merge_4 (by decide) (q := 7) rfl (fun c => ?_) (fun c => ?_)
  · have c : ptr (B0.length + 1) ≠ 0 := fun e => c (by rw [e]; rfl)
    rw [(hdn.2 c).1, (hdn.2 c).2]
    exact fin _ rfl
  · have c : ptr (B0.length + 1) = 0 := (by
      apply Classical.byContradiction
      intro h
      exact nI_n0 (by omega) (by omega) c)
    obtain ⟨d1, d2, d3⟩ := hdn.1 c
    refine j_ald_n o dX2_merge_7 rfl rfl (q := 8) rfl ?_
    refine j_dup o dX2_merge_8 rfl (q := 9) rfl ?_
    refine j_gf o dX2_merge_9 (jw 2 0 rfl rfl) kcX2 3 (Nat.le_of_ble_eq_true rfl) q297 rfl (q := 12) rfl ?_
    refine j_iconst o (nI 1) dX2_merge_12 (by decide) (q := 13) rfl ?_
    refine j_isub o dX2_merge_13 (q := 14) rfl ?_
    refine j_topi o (nI (lvl B0.length)) ((by rw [pk_sub (by omega)]; congr 1)) ?_
    refine j_pf o dX2_merge_14 2 0 rfl rfl kcX2 3 (Nat.le_of_ble_eq_true rfl) q297 rfl rfl rfl (Nat.le_of_ble_eq_true rfl) (q := 17) rfl ?_
    dsimp only [List.set]
    refine j_ald_n o dX2_merge_17 rfl rfl (q := 18) rfl ?_
    refine j_ald_n o dX2_merge_18 rfl rfl (q := 19) rfl ?_
    refine j_callV0 o (ctX2_base hG _ (F := (cap, lo, up, s1, s2)) (jwl 2 rfl List.mem_cons_self) hlv) dX2_merge_19 q503 wdX2_base mdX2_base (jw 2 0 rfl rfl) (by rfl) (by rfl) rfl (Nat.le_of_ble_eq_true rfl) (Nat.le_of_ble_eq_true rfl) (by omega) (Nat.le_of_ble_eq_true rfl) (q := 22) rfl (fun v wd hpost => ?_)
    obtain ⟨rfl, rfl⟩ := hpost
    dsimp only [List.cons_append, List.nil_append, Option.toList]
    refine j_pf o dX2_merge_22 2 0 rfl rfl kcX2 4 (Nat.le_of_ble_eq_true rfl) q299 rfl rfl rfl (Nat.le_of_ble_eq_true rfl) (q := 25) rfl ?_
    dsimp only [List.set]
    exact fin _ d3.symm

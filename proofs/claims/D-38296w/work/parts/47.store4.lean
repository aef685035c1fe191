/-! THE STORE, fourth: shapes kept; appendAll -/
set_option maxRecDepth 100000
def wfB (cap : Nat) (B : List Bkt) : Prop := ∀ b ∈ B, wfK cap b
theorem wfB.at {cap : Nat} {B : List Bkt} (h : wfB cap B) {i : Nat} (hi : i < B.length) : wfK cap (bAt B i) := h _ (List.mem_of_getElem? (bAt_ex hi))
theorem wfB.set {cap : Nat} {B : List Bkt} (h : wfB cap B) {i : Nat} {b : Bkt} (hb : wfK cap b) : wfB cap (B.set i b) := by
  intro c hc
  rcases List.mem_or_eq_of_mem_set hc with h1 | h1
  · exact h c h1
  · rw [h1]; exact hb
theorem usd_len {cap : Nat} : ∀ {B : List Bkt}, wfB cap B → (usd B).length * cap ≤ rws B + B.length * cap
  | [], _ => by simp [usd, rws]
  | b :: B, h => by
    have ih := usd_len (cap := cap) (B := B) (fun c hc => h c (by simp [hc]))
    obtain ⟨h1, h2, h3, -⟩ := h b (by simp)
    have e1 : usd (b :: B) = b.2.1 ++ usd B := rfl
    have e2 : rws (b :: B) = b.1.length + rws B := rfl
    have e3 := pg_sub (cap := cap) h1
    rw [e1, e2, List.length_append, List.length_cons, Nat.add_mul, Nat.succ_mul]
    rcases h3 with h3 | h3
    · rw [h3, Nat.one_mul]; omega
    · omega
theorem rws_set {i : Nat} {b : Bkt} : ∀ {B : List Bkt}, i < B.length → rws (B.set i b) + (bAt B i).1.length = rws B + b.1.length := by
  intro B
  induction B generalizing i with
  | nil => intro h; simp at h
  | cons c B ih =>
    intro h
    cases i with
    | zero =>
      show b.1.length + rws B + c.1.length = c.1.length + rws B + b.1.length
      omega
    | succ i =>
      have := ih (i := i) (by simpa using h)
      show c.1.length + rws (B.set i b) + (bAt B i).1.length = c.1.length + rws B + b.1.length
      omega
theorem mem_usd {B : List Bkt} {k : Nat} : k ∈ usd B ↔ ∃ (j : Nat) (b : Bkt), B[j]? = some b ∧ k ∈ b.2.1 := by
  unfold usd
  rw [List.mem_flatMap]
  constructor
  · rintro ⟨b, h1, h2⟩
    obtain ⟨j, hj⟩ := List.getElem?_of_mem h1
    exact ⟨j, b, hj, h2⟩
  · rintro ⟨j, b, h1, h2⟩
    exact ⟨b, List.mem_of_getElem? h1, h2⟩
theorem mem_usd_set {B : List Bkt} {i k : Nat} {b2 : Bkt} (hi : i < B.length) : k ∈ usd (B.set i b2) ↔ k ∈ b2.2.1 ∨ ∃ (j : Nat) (b : Bkt), j ≠ i ∧ B[j]? = some b ∧ k ∈ b.2.1 := by
  rw [mem_usd]
  constructor
  · rintro ⟨j, b, h1, h2⟩
    by_cases hj : j = i
    · subst hj
      rw [List.getElem?_set_self hi] at h1
      cases h1
      exact Or.inl h2
    · rw [List.getElem?_set_ne (fun e => hj e.symm)] at h1
      exact Or.inr ⟨j, b, hj, h1, h2⟩
  · rintro (h | ⟨j, b, hj, h1, h2⟩)
    · exact ⟨i, b2, by rw [List.getElem?_set_self hi], h⟩
    · exact ⟨j, b, by rw [List.getElem?_set_ne (fun e => hj e.symm)]; exact h1, h2⟩
theorem mem_usd_app {B : List Bkt} {i k : Nat} {b2 : Bkt} {X : List Nat} (hi : i < B.length) (hX : b2.2.1 = (bAt B i).2.1 ++ X) : k ∈ usd (B.set i b2) ↔ k ∈ X ∨ k ∈ usd B := by
  rw [mem_usd_set hi, hX, List.mem_append, mem_usd]
  have hb := bAt_ex hi
  constructor
  · rintro ((h | h) | ⟨j, b, hj, h1, h2⟩)
    · exact Or.inr ⟨i, _, hb, h⟩
    · exact Or.inl h
    · exact Or.inr ⟨j, b, h1, h2⟩
  · rintro (h | ⟨j, b, h1, h2⟩)
    · exact Or.inl (Or.inr h)
    · by_cases hj : j = i
      · subst hj
        rw [hb] at h1
        cases h1
        exact Or.inl (Or.inl h2)
      · exact Or.inr ⟨j, b, hj, h1, h2⟩
theorem wfK.app {cap ch sd : Nat} {us : List Nat} {b : Bkt} (h : wfK cap b) (r : Row) (hu : us.length < 96) (hc : 2 ≤ cap) : wfK cap (apB cap ch sd us b r) := by
  obtain ⟨h1, h2, h3, h4, h5⟩ := h
  obtain ⟨l1, l2, l3⟩ := lowF_spec hu
  have e3 := pg_sub (cap := cap) h1
  have hmul : cap * b.2.1.length = b.2.1.length * cap := Nat.mul_comm _ _
  unfold apB
  by_cases hf : b.1.length = cap * b.2.1.length
  · rw [if_pos hf]
    refine ⟨by simp, ?_, ?_, Nat.or_lt_two_pow h4 (mrk_lt _), ?_⟩
    · simp only [List.length_append, List.length_cons, List.length_nil]
      rw [Nat.add_mul]
      omega
    · right
      simp only [List.length_append, List.length_cons, List.length_nil, Nat.add_sub_cancel]
      omega
    · intro p hp
      rcases List.mem_append.mp hp with hp | hp
      · exact h5 p hp
      · rw [List.mem_singleton.mp hp]; exact l1
  · rw [if_neg hf]
    refine ⟨h1, ?_, ?_, Nat.or_lt_two_pow h4 (mrk_lt _), h5⟩
    · simp only [List.length_append, List.length_cons, List.length_nil]
      omega
    · rcases h3 with h3 | h3
      · exact Or.inl h3
      · right
        simp only [List.length_append, List.length_cons, List.length_nil]
        omega
/-- no page twice -/
def ndB (B : List Bkt) : Prop := (∀ b ∈ B, b.2.1.Nodup) ∧ ∀ (i j : Nat) (b c : Bkt) (k : Nat), B[i]? = some b → B[j]? = some c → k ∈ b.2.1 → k ∈ c.2.1 → i = j
theorem ndB.set {B : List Bkt} {i : Nat} {b2 : Bkt} (h : ndB B) (h1 : b2.2.1.Nodup) (h2 : ∀ (j : Nat) (c : Bkt) (k : Nat), j ≠ i → B[j]? = some c → k ∈ b2.2.1 → k ∉ c.2.1) : ndB (B.set i b2) := by
  refine ⟨fun b hb => ?_, fun j1 j2 b c k a1 a2 a3 a4 => ?_⟩
  · rcases List.mem_or_eq_of_mem_set hb with h3 | h3
    · exact h.1 b h3
    · rw [h3]; exact h1
  · have l1 := get_lt a1
    have l2 := get_lt a2
    simp at l1 l2
    by_cases e1 : j1 = i
    · by_cases e2 : j2 = i
      · rw [e1, e2]
      · subst e1
        rw [List.getElem?_set_self l1] at a1
        rw [List.getElem?_set_ne (fun e => e2 e.symm)] at a2
        cases a1
        exact absurd a4 (h2 j2 c k e2 a2 a3)
    · rw [List.getElem?_set_ne (fun e => e1 e.symm)] at a1
      by_cases e2 : j2 = i
      · subst e2
        rw [List.getElem?_set_self l2] at a2
        cases a2
        exact absurd a3 (h2 j1 b k e1 a1 a4)
      · rw [List.getElem?_set_ne (fun e => e2 e.symm)] at a2
        exact h.2 j1 j2 b c k a1 a2 a3 a4
theorem ndB.app {B : List Bkt} {i n : Nat} {b2 : Bkt} (h : ndB B) (hi : i < B.length) (hn : n ∉ usd B) (hb : b2.2.1 = (bAt B i).2.1 ++ [n] ∨ b2.2.1 = (bAt B i).2.1) : ndB (B.set i b2) := by
  have hB := bAt_ex hi
  have h0 := h.1 _ (List.mem_of_getElem? hB)
  have hx : n ∉ (bAt B i).2.1 := fun hm => hn (mem_usd.mpr ⟨i, _, hB, hm⟩)
  refine h.set ?_ (fun j c k hj hc hk hk2 => ?_)
  · rcases hb with hb | hb
    · rw [hb, List.nodup_append]
      refine ⟨h0, by simp, ?_⟩
      intro a ha b hb2
      rw [List.mem_singleton.mp hb2]
      intro e
      exact hx (e ▸ ha)
    · rw [hb]; exact h0
  · have : k ∈ (bAt B i).2.1 ∨ k = n := by
      rcases hb with hb | hb
      · rw [hb] at hk; simpa using hk
      · rw [hb] at hk; exact Or.inl hk
    rcases this with h3 | h3
    · exact hj (h.2 j i c _ k hc hB hk2 h3)
    · exact hn (mem_usd.mpr ⟨j, c, hc, h3 ▸ hk2⟩)
/-- so few records and buckets that pages never run out -/
def fits (cap : Nat) (B : List Bkt) (more : Nat) : Prop := 2 ≤ cap ∧ cap ≤ 4 ∧ 2 ≤ B.length ∧ B.length ≤ 60 ∧ rws B + more ≤ 60 ∧ wfB cap B ∧ ndB B
theorem fits.us {cap more : Nat} {B : List Bkt} (h : fits cap B more) : (usd B).length < 96 := by
  obtain ⟨h1, h2, h3, h4, h5, h6, h7⟩ := h
  have := usd_len h6
  have : (usd B).length * 2 ≤ rws B + B.length * 2 := by
    rcases (by omega : cap = 2 ∨ cap = 3 ∨ cap = 4) with rfl | rfl | rfl <;> omega
  omega
theorem fApp_len {cap ch sd : Nat} {B : List Bkt} {r : Row} : (fApp cap ch sd B r).length = B.length := by simp [fApp]
theorem fits.app {cap more ch sd : Nat} {B : List Bkt} (h : fits cap B (more + 1)) (r : Row) : fits cap (fApp cap ch sd B r) more := by
  have hu := h.us
  obtain ⟨h1, h2, h3, h4, h5, h6, h7⟩ := h
  have hi : adr B.length (hsh ch sd r.1) < B.length := adr_lt (by omega)
  refine ⟨h1, h2, by rw [fApp_len]; exact h3, by rw [fApp_len]; exact h4, ?_, h6.set ((h6.at hi).app r hu h1), h7.app hi (lowF_spec hu).2.1 ?_⟩
  rotate_left
  · show (if _ then _ else _) = _ ∨ (if _ then _ else _) = _
    split
    · exact Or.inl rfl
    · exact Or.inr rfl
  have := rws_set (b := apB cap ch sd (usd B) (bAt B (adr B.length (hsh ch sd r.1))) r) hi
  have e : (apB cap ch sd (usd B) (bAt B (adr B.length (hsh ch sd r.1))) r).1.length = (bAt B (adr B.length (hsh ch sd r.1))).1.length + 1 := by simp [apB]
  rw [e] at this
  show rws (B.set _ _) + more ≤ 60
  omega
theorem usd_app {cap ch sd k : Nat} {B : List Bkt} (hn : 2 ≤ B.length) (r : Row) : k ∈ usd (fApp cap ch sd B r) ↔ ((bAt B (adr B.length (hsh ch sd r.1))).1.length = cap * (bAt B (adr B.length (hsh ch sd r.1))).2.1.length ∧ k = lowF (usd B)) ∨ k ∈ usd B := by
  have hi : adr B.length (hsh ch sd r.1) < B.length := adr_lt (by omega)
  by_cases hf : (bAt B (adr B.length (hsh ch sd r.1))).1.length = cap * (bAt B (adr B.length (hsh ch sd r.1))).2.1.length
  · rw [fApp, mem_usd_app (X := [lowF (usd B)]) hi (by unfold apB; rw [if_pos hf]), List.mem_singleton, and_iff_right hf]
  · rw [fApp, mem_usd_app (X := []) hi (by unfold apB; rw [if_neg hf, List.append_nil])]
    simp [hf]
theorem lvl_lt {n : Nat} (h : n ≤ 64) : lvl n < 20 := by
  have := log2_le (n := n) (k := 6) (by omega)
  unfold lvl
  omega
theorem ptr_le {n : Nat} : ptr n ≤ n := Nat.sub_le _ _
def uApS (cap ch sd : Nat) : List Bkt → List Row → Nat
  | _, [] => 0
  | B, r :: rs => uApp cap (bAt B (adr B.length (hsh ch sd r.1))).1.length (bAt B (adr B.length (hsh ch sd r.1))).2.1.length + uApS cap ch sd (fApp cap ch sd B r) rs
theorem rws_at {B : List Bkt} {i : Nat} (h : i < B.length) : (bAt B i).1.length ≤ rws B := by
  have := rws_set (b := ([], [], 0)) h
  have e : (([], [], 0) : Bkt).1.length = 0 := rfl
  omega
theorem entR_app {S : va_W} {es : List Nat} {rs : List Row} {e : Nat} {r : Row} (h : entR S es rs) (he : (e, enO r) ∈ S) : entR S (es ++ [e]) (rs ++ [r]) := by
  refine ⟨by simp [h.1], fun i e2 r2 h1 h2 => ?_⟩
  rcases Nat.lt_or_ge i es.length with hi | hi
  · rw [List.getElem?_append_left hi] at h1
    rw [List.getElem?_append_left (by rw [← h.1]; exact hi)] at h2
    exact h.2 i e2 r2 h1 h2
  · rw [List.getElem?_append_right hi] at h1
    rw [List.getElem?_append_right (by rw [← h.1]; exact hi), ← h.1] at h2
    rcases hj : i - es.length with _ | j
    · rw [hj] at h1 h2
      cases h1; cases h2
      exact he
    · rw [hj] at h1
      simp at h1
theorem entB_set {S : va_W} {ess : List (List Nat)} {B : List Bkt} {i : Nat} {es : List Nat} {b : Bkt} (h : entB S ess B) (hb : entR S es b.1) : entB S (ess.set i es) (B.set i b) := by
  refine ⟨by simp [h.1], fun j e2 b2 h1 h2 => ?_⟩
  by_cases hj : j = i
  · subst hj
    have hl := get_lt h1
    have hl2 := get_lt h2
    simp at hl hl2
    rw [List.getElem?_set_self hl] at h1
    rw [List.getElem?_set_self hl2] at h2
    cases h1; cases h2
    exact hb
  · rw [List.getElem?_set_ne (fun e => hj e.symm)] at h1 h2
    exact h.2 j e2 b2 h1 h2
theorem ctX2_appendAll {l : Launch} {g : jG} (hG : GS l g) (bg : va_W) {q lv pt sz hs ch sd a cap lo up s1 s2 : Nat} {xs : List Nat} {rs : List Row} {B : List Bkt} {ess : List (List Nat)} {w : va_W} (hS : isSt g hs q (cap, lo, up, s1, s2) lv pt sz B ess w) (hE : entB bg ess B) (hh : (hs, hsO ch sd) ∈ bg) (ha : ALR g bg a xs) (hX : entR bg xs rs) (hlv : lv = lvl B.length) (hpt : pt = ptr B.length) (hf : fits cap B rs.length) (hc : ch < 1024) (hs9 : sd < 10) (hk : ∀ r ∈ rs, r.1 < 2 ^ 31) : KX2_appendAll l g 9 (uApS cap ch sd B rs) [.ref q, .ref a] bg [w] (fun v wd => v = none ∧ ∃ ess2 w2, wd = [w2] ∧ isSt g hs q (cap, lo, up, s1, s2) lv pt sz (apAll cap ch sd B rs) ess2 w2 ∧ ∀ S, entB S ess B → entR S xs rs → entB S ess2 (apAll cap ch sd B rs)) := by
  obtain ⟨m, b, hq, h0, h⟩ := id ha
  have hxl := hX.1
  refine Ctr.of [some (.ref q), some (.ref a), none] hG (by decide +kernel) rfl (Nat.le_of_ble_eq_true rfl) (fun Y hl hN0 o r hI => ?_)
  subst hl
  have hN : ∀ i, i < 3 → i < yN Y := fun i h => by rw [hN0]; exact h
  have loop : ∀ (d k : Nat) (B2 : List Bkt) (ess2 : List (List Nat)) (w2 : va_W) (u9 : Nat), k + d = rs.length → isSt g hs q (cap, lo, up, s1, s2) lv pt sz B2 ess2 w2 → entB bg ess2 B2 → fits cap B2 d → B2.length = B.length → u9 + uApS cap ch sd B2 (rs.drop k) ≤ uApS cap ch sd B rs → apAll cap ch sd B2 (rs.drop k) = apAll cap ch sd B rs → (∀ S, entB S ess B → entR S xs rs → entB S ess2 B2) → J g Y [w2] u9 2 [some (.ref q), some (.ref a), some (.int (nI k))] [] := by
    intro d
    induction d with
    | zero =>
      intro k B2 ess2 w2 u9 k1 hS2 hE2 hf2 hl2 hu hap hS9
      refine j_ild_n o dX2_appendAll_2 rfl (q := 3) rfl ?_
      refine j_ald_n o dX2_appendAll_3 rfl rfl (q := 4) rfl ?_
      refine j_callV0 o (ctJ2_size hG _ (jmr hq)) dX2_appendAll_4 q417 wdJ2_size mdJ2_size (jb hq) (by rfl) (by rfl) rfl (Nat.le_of_ble_eq_true rfl) (Nat.le_of_ble_eq_true rfl) (by omega) (Nat.le_of_ble_eq_true rfl) (q := 7) rfl (fun v wd hpost => ?_)
      obtain ⟨rfl, rfl⟩ := hpost
      dsimp only [List.cons_append, List.nil_append, Option.toList]
      refine j_icgeT o 28 dX2_appendAll_7 (by decide) (nI_le (by omega) (by omega)) ?_
      have e : rs.drop k = [] := List.drop_of_length_le (by omega)
      rw [e] at hap
      have hap : B2 = apAll cap ch sd B rs := hap
      rw [hap] at hS2 hS9
      exact j_vret o r dX2_appendAll_28 [_] _ rfl (⟨rfl, ess2, w2, rfl, hS2, hS9⟩) (by omega)
    | succ d ih =>
      intro k B2 ess2 w2 u9 k1 hS2 hE2 hf2 hl2 hu hap hS9
      obtain ⟨r9, hr9⟩ := get_ex (xs := rs) (i := k) (by omega)
      obtain ⟨e9, he9⟩ := get_ex (xs := xs) (i := k) (by omega)
      have hen := hX.2 k e9 r9 he9 hr9
      have hd : rs.drop k = r9 :: rs.drop (k + 1) := (by rw [List.drop_eq_getElem_cons (by omega)]; congr 1; rw [List.getElem?_eq_getElem (by omega)] at hr9; exact Option.some.inj hr9)
      have hus := hf2.us
      have hf3 := hf2.app (ch := ch) (sd := sd) r9
      have f1 := hf2.1
      have f2 := hf2.2.1
      have f3 := hf2.2.2.1
      have f4 := hf2.2.2.2.1
      have f5 := hf2.2.2.2.2.1
      have hwf := hf2.2.2.2.2.2.1
      have hi : adr B2.length (hsh ch sd r9.1) < B2.length := adr_lt (by omega)
      have hrw := rws_at hi
      have hS9b : entB bg ess2 B2 := hE2
      obtain ⟨bl, tk, qs, wbl, wsb, hperm, hA, hBk⟩ := hS2
      obtain ⟨qb, hqb⟩ := get_ex (xs := qs) (i := adr B2.length (hsh ch sd r9.1)) (by rw [hBk.1]; exact hi)
      obtain ⟨es, wb, R, hes, hp1, hB1, hcl⟩ := isBks_open hBk hqb
      have hER := hE2.2 _ es _ hes (bAt_ex hi)
      have hperm2 : w2.Perm (jflat [[(tk, tkO g (usd B2))], wb, [(q, stO (cap, lo, up, s1, s2) lv pt sz hs bl tk)], wbl, R]) := (by letI : DecidableEq (Nat × va_E) := fun _ _ => Classical.propDecidable _; exact List.perm_iff_count.mpr (fun a_ => by have e0_ := List.Perm.count_eq (hperm) a_; have e1_ := List.Perm.count_eq (hp1) a_; simp only [List.flatten_cons, List.flatten_nil, jflat, List.cons_append, List.nil_append, List.count_append, List.count_cons, List.append_nil, List.count_nil, List.flatten_append, bkO, pgO, stO, eO, tkO, eA] at e0_ e1_ ⊢; omega))
      rw [hd] at hu hap
      have hu2 : uApS cap ch sd B2 (r9 :: rs.drop (k + 1)) = uApp cap (bAt B2 (adr B2.length (hsh ch sd r9.1))).1.length (bAt B2 (adr B2.length (hsh ch sd r9.1))).2.1.length + uApS cap ch sd (fApp cap ch sd B2 r9) (rs.drop (k + 1)) := rfl
      rw [hu2] at hu
      have hz : ∀ c, c ∈ jflat [[(tk, tkO g (usd B2))], wb, [(q, stO (cap, lo, up, s1, s2) lv pt sz hs bl tk)], wbl, R] → c ∈ w2 := fun c hc => hperm2.mem_iff.mpr hc
      refine j_ild_n o dX2_appendAll_2 rfl (q := 3) rfl ?_
      refine j_ald_n o dX2_appendAll_3 rfl rfl (q := 4) rfl ?_
      refine j_callV0 o (ctJ2_size hG _ (jmr hq)) dX2_appendAll_4 q417 wdJ2_size mdJ2_size (jb hq) (by rfl) (by rfl) rfl (Nat.le_of_ble_eq_true rfl) (Nat.le_of_ble_eq_true rfl) (by omega) (Nat.le_of_ble_eq_true rfl) (q := 7) rfl (fun v wd hpost => ?_)
      obtain ⟨rfl, rfl⟩ := hpost
      dsimp only [List.cons_append, List.nil_append, Option.toList]
      refine j_icgeF o (t := 28) dX2_appendAll_7 (by decide) (q := 10) rfl (nI_ge (by omega) (by omega)) ?_
      refine j_ald_n o dX2_appendAll_10 rfl rfl (q := 11) rfl ?_
      refine j_ald_n o dX2_appendAll_11 rfl rfl (q := 12) rfl ?_
      refine j_ild_n o dX2_appendAll_12 rfl (q := 13) rfl ?_
      refine j_callV0 o (ctJ2_get hG _ (ha.mono (fun _ => jmr)) he9) dX2_appendAll_13 q418 wdJ2_get mdJ2_get (jb hq) (by rfl) (by rfl) rfl (Nat.le_of_ble_eq_true rfl) (Nat.le_of_ble_eq_true rfl) (by omega) (Nat.le_of_ble_eq_true rfl) (q := 16) rfl (fun v wd hpost => ?_)
      obtain ⟨rfl, rfl⟩ := hpost
      dsimp only [List.cons_append, List.nil_append, Option.toList]
      refine j_castS (r := (RX11, TX11, 2)) o dX2_appendAll_16 q435 (jb hen) (ci := 11) rfl (q := 19) rfl ?_
      refine j_spP _ (hperm2) ?_
      dsimp only [List.cons_append, List.nil_append]
      refine j_callV2 o (ctX2_append hG _ (us2 := usd (fApp cap ch sd B2 r9)) (b := bAt B2 (adr B2.length (hsh ch sd r9.1))) (qs := qs) (jwl 0 rfl List.mem_cons_self) (jmr hh) (hA.r (fun c hc => jwl 1 rfl hc)) (jmr hen) (by rw [hlv]; exact lvl_lt (by omega)) (by have := ptr_le (n := B.length); omega) hc hs9 (hk r9 (List.mem_of_getElem? hr9)) (by rw [hlv, hpt, ← hl2, ← adr_ad f3]; exact hqb) hB1 hER.1 (fun y hy => (hER.el y hy).mono (fun _ => jmr)) (hwf.at hi) ⟨f1, f2⟩ (by rw [hER.1]; omega) hus (fun k => usd_app f3 r9)) dX2_appendAll_19 q588 wdX2_append mdX2_append (jw 2 0 rfl rfl) (by rfl) (by rfl) rfl (Nat.le_of_ble_eq_true rfl) (Nat.le_of_ble_eq_true rfl) (by omega) (Nat.le_of_ble_eq_true rfl) (q := 22) rfl (fun v wd hpost => ?_)
      obtain ⟨rfl, wb2, rfl, hB2⟩ := hpost
      dsimp only [List.cons_append, List.nil_append, Option.toList]
      obtain ⟨wsb2, hp3, hBk2⟩ := hcl _ _ _ hB2
      refine j_inc2 o (nI (k + 1)) dX2_appendAll_22 (by first | exact nI_1 _ | exact pk_m1 _ | rfl) rfl (q := 25) rfl ?_
      refine j_goto o 2 dX2_appendAll_25 (by decide) ?_
      refine j_mgN [_, _, _, _, _] (fun w3 hw3 => ?_)
      first | dsimp only [List.cons_append, List.nil_append] | skip
      refine ih (k + 1) (fApp cap ch sd B2 r9) (ess2.set _ (es ++ [e9])) w3 _ (by omega) ⟨bl, tk, qs, wbl, wsb2, (by letI : DecidableEq (Nat × va_E) := fun _ _ => Classical.propDecidable _; exact List.perm_iff_count.mpr (fun a_ => by have e0_ := List.Perm.count_eq (hw3) a_; have e1_ := List.Perm.count_eq (hp3) a_; simp only [List.flatten_cons, List.flatten_nil, jflat, List.cons_append, List.nil_append, List.count_append, List.count_cons, List.append_nil, List.count_nil, List.flatten_append, bkO, pgO, stO, eO, tkO, eA] at e0_ e1_ ⊢; omega)), hA, hBk2⟩ (entB_set hE2 (entR_app hER hen)) hf3 (by rw [fApp_len]; exact hl2) (by omega) hap (fun S s1 s2 => ?_)
      have s3 := hS9 S s1 s2
      exact entB_set s3 (entR_app (s3.2 _ es _ hes (bAt_ex hi)) (s2.2 k e9 r9 he9 hr9))
  refine j_iconst o (nI 0) dX2_appendAll_0 (by decide) (q := 1) rfl ?_
  refine j_ist2 o dX2_appendAll_1 rfl (hN 2 (Nat.le_of_ble_eq_true rfl)) (q := 2) rfl ?_
  exact loop rs.length 0 B ess w 0 (by omega) hS hE hf rfl (by simp) (by simp) (fun S s1 _ => s1)

/-! THE STORE, twelfth: rehash -/
set_option maxRecDepth 100000
theorem inK_all {cap ch sd x : Nat} : ∀ {rs : List Row} {B : List Bkt}, inK (apAll cap ch sd B rs) x → inK B x ∨ x ∈ rs.map (·.1) := by
  intro rs
  induction rs with
  | nil => intro B h; exact Or.inl h
  | cons r rs ih =>
    intro B h
    rcases ih (B := fApp cap ch sd B r) h with h1 | h1
    · rcases inK_app h1 with h2 | h2
      · exact Or.inl h2
      · exact Or.inr (by simp [h2])
    · exact Or.inr (by simp only [List.map_cons, List.mem_cons]; exact Or.inr h1)
theorem inK_spl {cap ch sd x : Nat} {B : List Bkt} (hn : 2 ≤ B.length) (h : inK (splB cap ch sd B) x) : inK B x := by
  have hi := ptr_in hn
  rcases inK_all h with ⟨j, b, h1, h2⟩ | h1
  · rcases snoc_get h1 with ⟨hj, hb⟩ | ⟨hj, rfl⟩
    · by_cases hji : j = ptr B.length
      · subst hji
        rw [List.getElem?_set_self hi] at hb
        cases hb
        simp [emB] at h2
      · rw [List.getElem?_set_ne (fun e => hji e.symm)] at hb
        exact ⟨j, b, hb, h2⟩
    · simp at h2
  · exact ⟨_, _, bAt_ex hi, h1⟩
theorem inK_splN {cap ch sd up x : Nat} (h5 : 50 ≤ up) : ∀ (d : Nat) (B : List Bkt) (s : Nat), Inv cap ch sd B → inK (splN cap ch sd up d (B, s)).1 x → inK B x := by
  intro d
  induction d with
  | zero => intro B s _ h; exact h
  | succ d ih =>
    intro B s hI h
    unfold splN at h
    by_cases hc : up < lod cap B
    · rw [if_pos hc] at h
      exact inK_spl hI.1.2.2.1 (ih _ _ (hI.spl (lod_lt hI.1 h5 hc)).1 h)
    · rw [if_neg hc] at h
      exact h
theorem fGet_none {ch sd key : Nat} {B : List Bkt} (hn : 2 ≤ B.length) (h : ¬ inK B key) : fGet ch sd B key = none := by
  unfold fGet
  have h1 : key ∉ (bAt B (bOf ch sd B key)).1.map (·.1) := fun hm => h ⟨_, _, bAt_ex (adr_lt (by omega)), hm⟩
  rw [no_find h1]
  rfl
theorem inK_put {F : Fl} {k v x : Nat} (h : InvF F) (hk : k < 10000) (hv : v < 10000) (hg : fGet (fCh F) (fSd F) (fB F) k = none) (hroom : rws (fB F) < 60) (hx : inK (fB (fPut F k v)) x) : inK (fB F) x ∨ x = k := by
  obtain ⟨h1, h2⟩ := h
  have hf := h1.1
  obtain ⟨g1, g2, g3, g4, g5, g6, g7⟩ := hf
  have hno : k ∉ (bAt (fB F) (bOf (fCh F) (fSd F) (fB F) k)).1.map (·.1) := by
    intro hm
    obtain ⟨r, hr, hrk⟩ := List.mem_map.mp hm
    unfold fGet at hg
    have := List.find?_eq_none.mp (Option.map_eq_none_iff.mp hg) r hr
    simp at this
    exact this hrk
  have hall := Inv_all (cap := fC F) (ch := fCh F) (sd := fSd F) (rs := [(k, v)]) (B := fB F) ⟨g1, g2, g3, g4, by show rws (fB F) + 1 ≤ 60; omega, g6, g7⟩ h1.2 (fun z hz => by rw [List.mem_singleton.mp hz]; exact ⟨hk, hv⟩) (fun z hz => by rw [List.mem_singleton.mp hz]; exact h1.2.noK hno) (by simp)
  unfold fPut at hx
  dsimp only at hx
  rw [hg] at hx
  dsimp only at hx
  exact inK_app (inK_splN h2.2.2.2.1 64 _ _ hall.1 hx)
theorem alR_len (B : List Bkt) : (alR B).length = rws B := by simp [alR, rws, List.length_flatMap]
theorem alR_mem {B : List Bkt} {r : Row} : r ∈ alR B ↔ ∃ (i : Nat) (b : Bkt), B[i]? = some b ∧ r ∈ b.1 := by
  unfold alR
  rw [List.mem_flatMap]
  constructor
  · rintro ⟨b, h1, h2⟩
    obtain ⟨i, hi⟩ := List.getElem?_of_mem h1
    exact ⟨i, b, hi, h2⟩
  · rintro ⟨i, b, h1, h2⟩
    exact ⟨b, List.mem_of_getElem? h1, h2⟩
theorem adOk.nd {ch sd : Nat} {B : List Bkt} (h : adOk ch sd B) : ((alR B).map (·.1)).Nodup := by
  unfold alR List.Nodup
  rw [List.pairwise_map, List.pairwise_flatMap]
  refine ⟨fun b hb => ?_, List.pairwise_iff_getElem.mpr (fun i j hi hj hij x hx y hy e => ?_)⟩
  · obtain ⟨i, hi⟩ := List.getElem?_of_mem hb
    exact List.pairwise_map.mp (h i b hi).2
  · have a := ((h i _ (List.getElem?_eq_getElem hi)).1 x hx).2.2.1
    have c := ((h j _ (List.getElem?_eq_getElem hj)).1 y hy).2.2.1
    rw [e] at a
    omega
def fPs (F : Fl) (rs : List Row) : Fl := rs.foldl (fun F r => fPut F r.1 r.2) F
theorem fPs_inv : ∀ (rs : List Row) (F : Fl), InvF F → rws (fB F) + rs.length ≤ 60 → (∀ r ∈ rs, r.1 < 10000 ∧ r.2 < 10000) → (∀ r ∈ rs, ¬ inK (fB F) r.1) → (rs.map (·.1)).Nodup → InvF (fPs F rs) ∧ rws (fB (fPs F rs)) = rws (fB F) + rs.length ∧ (fPs F rs).1 = F.1 ∧ (fPs F rs).2.1 = F.2.1 := by
  intro rs
  induction rs with
  | nil => intro F h _ _ _ _; exact ⟨h, rfl, rfl, rfl⟩
  | cons r rs ih =>
    intro F h h1 h2 h3 h4
    rw [List.length_cons] at h1
    have hg := fGet_none (ch := fCh F) (sd := fSd F) h.1.1.2.2.1 (h3 r (by simp))
    have hr := h2 r (by simp)
    obtain ⟨a1, a2, a3, a4⟩ := fPut_inv h hr.1 hr.2 (fun _ => by omega)
    rw [hg] at a4
    dsimp only at a4
    have h7 := List.nodup_cons.mp h4
    obtain ⟨b1, b2, b3, b4⟩ := ih (fPut F r.1 r.2) a1 (by omega) (fun x hx => h2 x (by simp [hx])) (fun x hx hk => by
      rcases inK_put h hr.1 hr.2 hg (by omega) hk with hk | hk
      · exact h3 x (by simp [hx]) hk
      · exact h7.1 (List.mem_map.mpr ⟨x, hx, hk⟩)) h7.2
    exact ⟨b1, by rw [List.length_cons]; show rws (fB (fPs (fPut F r.1 r.2) rs)) = _; omega, b3.trans a2, b4.trans a3⟩
def fRe0 (F : Fl) (ch sd : Nat) : Fl := (F.1, (ch, sd), F.2.2.1, bgn)
theorem bgn_inv {cap ch sd : Nat} (h1 : 2 ≤ cap) (h2 : cap ≤ 4) : Inv cap ch sd bgn := by
  refine ⟨⟨h1, h2, by decide, by decide, by decide, fun b hb => ?_, fun b hb => ?_, fun i j b c k a1 a2 a3 a4 => ?_⟩, fun i b hb => ?_⟩
  · simp [bgn] at hb
    rcases hb with rfl | rfl <;> exact ⟨by simp, by simp, Or.inl rfl, by decide, by simp⟩
  · simp [bgn] at hb
    rcases hb with rfl | rfl <;> simp
  · match i, j, a1, a2 with
    | 0, 0, _, _ => rfl
    | 1, 1, _, _ => rfl
    | 0, 1, a1, a2 => (cases a1; cases a2; simp at a3 a4; omega)
    | 1, 0, a1, a2 => (cases a1; cases a2; simp at a3 a4; omega)
    | i + 2, _, a1, _ => simp [bgn] at a1
    | _, j + 2, _, a2 => simp [bgn] at a2
  · have hb := List.mem_of_getElem? hb
    simp [bgn] at hb
    rcases hb with rfl | rfl <;> exact ⟨fun r hr => by simp at hr, by simp⟩
theorem fRe_inv {F : Fl} {ch sd : Nat} (h : InvF F) (hc : ch < 1024) (hs : sd < 10) : InvF (fRe F ch sd) ∧ rws (fB (fRe F ch sd)) = rws (fB F) ∧ (fRe F ch sd).1 = F.1 ∧ (fRe F ch sd).2.1 = (ch, sd) := by
  obtain ⟨h1, h2, h3, h4, h5, h6⟩ := h
  have hr := h1.1.2.2.2.2.1
  have := fPs_inv (alR (fB F)) (fRe0 F ch sd) ⟨bgn_inv h1.1.1 h1.1.2.1, hc, hs, h4, h5, h6⟩ (by rw [alR_len]; show rws bgn + _ ≤ 60; rw [bgn_lv.2.2]; omega) (fun r hr => by
    obtain ⟨i, b, a1, a2⟩ := alR_mem.mp hr
    have := (h1.2 i b a1).1 r a2
    exact ⟨this.1, this.2.1⟩) (fun r _ hk => by
    obtain ⟨i, b, a1, a2⟩ := hk
    have hb := List.mem_of_getElem? a1
    have hb : b ∈ bgn := hb
    simp [bgn] at hb
    rcases hb with rfl | rfl <;> simp at a2) h1.2.nd
  obtain ⟨a1, a2, a3, a4⟩ := this
  exact ⟨a1, by show rws (fB (fPs (fRe0 F ch sd) (alR (fB F)))) = _; rw [a2, alR_len]; show rws bgn + _ = _; rw [bgn_lv.2.2]; omega, a3, a4⟩
def uRA (cap : Nat) : List Bkt → Nat → Nat
  | [], _ => 0
  | b :: B, n => uBall cap b.1.length b.2.1.length + uAll n b.1.length + uRA cap B (n + b.1.length)
def uPs : Fl → List Row → Nat
  | _, [] => 0
  | F, r :: rs => uPut F r.1 r.2 + uPs (fPut F r.1 r.2) rs
def uRe (F : Fl) (ch sd : Nat) : Nat := 13 + uRA (fC F) (fB F) 0 + uPs (fRe0 F ch sd) (alR (fB F))
theorem entR_cat {S : va_W} {es fs : List Nat} {rs ss : List Row} (h : entR S es rs) (h2 : entR S fs ss) : entR S (es ++ fs) (rs ++ ss) := by
  refine ⟨by simp [h.1, h2.1], fun i e r a1 a2 => ?_⟩
  rcases Nat.lt_or_ge i es.length with hi | hi
  · rw [List.getElem?_append_left hi] at a1
    rw [List.getElem?_append_left (by rw [← h.1]; exact hi)] at a2
    exact h.2 i e r a1 a2
  · rw [List.getElem?_append_right hi] at a1
    rw [List.getElem?_append_right (by rw [← h.1]; exact hi), ← h.1] at a2
    exact h2.2 _ e r a1 a2
theorem ess_take {ess : List (List Nat)} {B : List Bkt} {S : va_W} (h : entB S ess B) : ∀ k, entR S (ess.take k).flatten (alR (B.take k)) := by
  intro k
  induction k with
  | zero => simpa [alR] using entR_nil
  | succ k ih =>
    rcases Nat.lt_or_ge k B.length with hk | hk
    · obtain ⟨es, he⟩ := get_ex (xs := ess) (i := k) (by rw [h.1]; exact hk)
      have hb := bAt_ex hk
      have e1 : (ess.take (k + 1)).flatten = (ess.take k).flatten ++ es := by rw [List.take_add_one, he]; simp
      have e2 : alR (B.take (k + 1)) = alR (B.take k) ++ (bAt B k).1 := by rw [List.take_add_one, hb]; simp [alR]
      rw [e1, e2]
      exact entR_cat ih (h.2 k es _ he hb)
    · have h1 := h.1
      rw [List.take_of_length_le (by omega), List.take_of_length_le (by omega)] at ih ⊢
      exact ih
theorem bgn_ent {S : va_W} {i : Nat} {e : List Nat} {b : Bkt} (h1 : ([[], []] : List (List Nat))[i]? = some e) (h2 : bgn[i]? = some b) : entR S e b.1 := by
  match i, h1, h2 with
  | 0, h1, h2 => (cases h1; cases h2; exact entR_nil)
  | 1, h1, h2 => (cases h1; cases h2; exact entR_nil)
  | i + 2, h1, h2 => simp at h1
theorem bgn_no {k : Nat} (h : inK bgn k) : False := by
  obtain ⟨i, b, a1, a2⟩ := h
  have hb : b ∈ bgn := List.mem_of_getElem? a1
  simp [bgn] at hb
  rcases hb with rfl | rfl <;> simp at a2
theorem rws_take (B : List Bkt) (k : Nat) : rws (B.take k) ≤ rws B := by
  have : rws B = rws (B.take k) + rws (B.drop k) := by
    unfold rws
    rw [← List.sum_append, ← List.map_append, List.take_append_drop]
  omega
theorem ctX2_rehash {l : Launch} {g : jG} (hG : GS l g) (bg : va_W) {q hs ch2 sd2 : Nat} {F : Fl} {ess : List (List Nat)} {w we : va_W} (hS : isF g hs q F ess w) (hE : entB we ess (fB F)) (hI9 : InvF F) (hc : ch2 < 1024) (hs9 : sd2 < 10) : KX2_rehash l g 12 (uRe F ch2 sd2) [.ref q, .int (nI ch2), .int (nI sd2)] bg [w, we] (fun x wd => x = none ∧ ∃ h2 ess2 w2 we2, wd = [w2, we2, [(h2, hsO ch2 sd2)]] ∧ isF g h2 q (fRe F ch2 sd2) ess2 w2 ∧ entB we2 ess2 (fB (fRe F ch2 sd2))) := by
  have hri := fRe_inv hI9 hc hs9
  obtain ⟨⟨cap, lo, up⟩, ⟨ch, sd⟩, ⟨sp, mg⟩, B⟩ := F
  obtain ⟨hV, hc1, hs1, hlo, hup, hup9⟩ := hI9
  dsimp only [fC, fLo, fUp, fCh, fSd, fSp, fMg, fB] at hS hE hV hc1 hs1 hlo hup hup9 hri ⊢
  have hf := hV.1
  have f1 := hf.1
  have f2 := hf.2.1
  have f3 := hf.2.2.1
  have f4 := hf.2.2.2.1
  have f5 := hf.2.2.2.2.1
  have hwf := hf.2.2.2.2.2.1
  have hS : isSt g hs q (cap, lo, up, sp, mg) (lvl B.length) (ptr B.length) (rws B) B ess w := hS
  have hU : uRe ((cap, lo, up), (ch, sd), (sp, mg), B) ch2 sd2 = 13 + uRA cap B 0 + uPs ((cap, lo, up), (ch2, sd2), (sp, mg), bgn) (alR B) := rfl
  generalize hU9 : uRe ((cap, lo, up), (ch, sd), (sp, mg), B) ch2 sd2 = U9 at hU ⊢
  have hFd : fRe ((cap, lo, up), (ch, sd), (sp, mg), B) ch2 sd2 = fPs ((cap, lo, up), (ch2, sd2), (sp, mg), bgn) (alR B) := rfl
  rw [hFd] at hri ⊢
  have hRw : stR g w hs q (cap, lo, up, sp, mg) (lvl B.length) (ptr B.length) (rws B) B ess := hS.r (fun _ h => h)
  obtain ⟨bl0, tk0, qs0, e1, e2, e3, e4, e5, e6⟩ := hRw
  obtain ⟨m1, b1, hz1, -⟩ := id e3
  have hel := hE.1
  refine Ctr.of [some (.ref q), some (.int (nI ch2)), some (.int (nI sd2)), none, none] hG (by decide +kernel) rfl (Nat.le_of_ble_eq_true rfl) (fun Y hl hN0 o r hI => ?_)
  subst hl
  have hN : ∀ i, i < 5 → i < yN Y := fun i h => by rw [hN0]; exact h
  have fin : ∀ (a : Nat) (wa : va_W) (u9 : Nat), AL g a ess.flatten wa → u9 ≤ 1 + uRA cap B 0 → J g Y [wa, w, we] u9 49 [some (.ref q), some (.int (nI ch2)), some (.int (nI sd2)), some (.ref a), some (.int (nI B.length))] [] := by
    intro a wa u9 hA hu
    have hX : entR we ess.flatten (alR B) := by
      have := ess_take hE B.length
      rw [List.take_of_length_le (by omega), List.take_of_length_le (by omega)] at this
      exact this
    have hXl := hX.1
    have hal := alR_len B
    have hAr : ALR g wa a ess.flatten := hA.r (fun c hc => hc)
    obtain ⟨m2, b2, hz2, -⟩ := id hAr
    obtain ⟨bl, tk, qs, wbl, wsb, hperm, hAb, hBk⟩ := hS
    have hperm2 : w.Perm (jflat [[(q, stO (cap, lo, up, sp, mg) (lvl B.length) (ptr B.length) (rws B) hs bl tk)], [(tk, tkO g (usd B))], wbl, wsb.flatten]) := (by letI : DecidableEq (Nat × va_E) := fun _ _ => Classical.propDecidable _; exact List.perm_iff_count.mpr (fun a_ => by have e0_ := List.Perm.count_eq (hperm) a_; simp only [List.flatten_cons, List.flatten_nil, jflat, List.cons_append, List.nil_append, List.count_append, List.count_cons, List.append_nil, List.count_nil, List.flatten_append, bkO, pgO, stO, eO, tkO, eA] at e0_ ⊢; omega))
    refine j_ald_n o dX2_rehash_49 rfl rfl (q := 50) rfl ?_
    refine j_new o (fs := fdX3) 1 dX2_rehash_50 kcX3 q118 q119 q66 dfX3 (by omega) (by decide) (q := 53) rfl (fun h2 hb_h2 => ?_)
    refine j_dup o dX2_rehash_53 rfl (q := 54) rfl ?_
    refine j_ild_n o dX2_rehash_54 rfl (q := 55) rfl ?_
    refine j_ild_n o dX2_rehash_55 rfl (q := 56) rfl ?_
    refine j_callI1 o (ctX3_init hG _ h2 _ _) dX2_rehash_56 q120 wdX3_init mdX3_init rfl rfl (Nat.le_of_ble_eq_true rfl) (Nat.le_of_ble_eq_true rfl) (by omega) (Nat.le_of_ble_eq_true rfl) (q := 59) rfl (fun v wd hpost => ?_)
    obtain ⟨rfl, rfl⟩ := hpost
    dsimp only [List.cons_append, List.nil_append, Option.toList]
    refine j_mv2 ?_
    refine j_spP _ (hperm2) ?_
    dsimp only [List.cons_append, List.nil_append]
    refine j_pf o dX2_rehash_59 0 0 rfl rfl kcX2 8 (Nat.le_of_ble_eq_true rfl) q307 rfl rfl rfl (Nat.le_of_ble_eq_true rfl) (q := 62) rfl ?_
    dsimp only [List.set]
    refine j_ald_n o dX2_rehash_62 rfl rfl (q := 63) rfl ?_
    refine j_callV3 o (ctX2_begin hG _ (cap := cap) (F := (cap, lo, up, sp, mg)) hAb) dX2_rehash_63 q162 wdX2_begin mdX2_begin (jw 0 0 rfl rfl) (by rfl) (by rfl) rfl (Nat.le_of_ble_eq_true rfl) (Nat.le_of_ble_eq_true rfl) (by omega) (Nat.le_of_ble_eq_true rfl) (q := 66) rfl (fun v wd hpost => ?_)
    obtain ⟨rfl, q0, q1, wbl2, w0, w1, rfl, hA2, hB0, hB1⟩ := hpost
    dsimp only [List.cons_append, List.nil_append, Option.toList]
    refine j_mgN [_, _, _, _, _] (fun w2 hw2 => ?_)
    first | dsimp only [List.cons_append, List.nil_append] | skip
    have hS2 : isSt g h2 q (cap, lo, up, sp, mg) 0 0 0 bgn [[], []] w2 := bgn_st hA2 hB0 hB1 hw2
    have hS2 : isF g h2 q ((cap, lo, up), (ch2, sd2), (sp, mg), bgn) [[], []] w2 := (by
      show isSt g h2 q (cap, lo, up, sp, mg) (lvl bgn.length) (ptr bgn.length) (rws bgn) bgn [[], []] w2
      rw [bgn_lv.1, bgn_lv.2.1, bgn_lv.2.2]
      exact hS2)
    refine j_mv1 ?_
    refine j_drop ?_
    refine j_iconst o (nI 0) dX2_rehash_66 (by decide) (q := 67) rfl ?_
    refine j_ist4 o dX2_rehash_67 rfl (hN 4 (Nat.le_of_ble_eq_true rfl)) (q := 69) rfl ?_
    refine j_mv3 ?_
    refine j_mv1 ?_
    have hnd := hV.2.nd
    have loop : ∀ (d k : Nat) (F2 : Fl) (ess2 : List (List Nat)) (w2 we2 : va_W) (u9 : Nat), k + d = (alR B).length → InvF F2 → F2.2.1 = (ch2, sd2) → rws (fB F2) = k → isF g h2 q F2 ess2 w2 → entB we2 ess2 (fB F2) → entR we2 ess.flatten (alR B) → (∀ r ∈ (alR B).drop k, ¬ inK (fB F2) r.1) → fPs F2 ((alR B).drop k) = fPs ((cap, lo, up), (ch2, sd2), (sp, mg), bgn) (alR B) → u9 + uPs F2 ((alR B).drop k) ≤ U9 → J g Y [w2, we2, [(h2, hsO ch2 sd2)], wa] u9 69 [some (.ref q), some (.int (nI ch2)), some (.int (nI sd2)), some (.ref a), some (.int (nI k))] [] := by
      intro d
      induction d with
      | zero =>
        intro k F2 ess2 w2 we2 u9 d1 d2 d3 d4 d5 d6 d7 d8 d9 d10
        rw [List.drop_of_length_le (by omega)] at d9
        have d9 : F2 = _ := d9
        rw [← d9] at r
        refine j_ild o dX2_rehash_69 rfl (q := 71) rfl ?_
        refine j_ald_n o dX2_rehash_71 rfl rfl (q := 72) rfl ?_
        refine j_callV0 o (ctJ2_size hG _ (jwl 3 rfl hz2)) dX2_rehash_72 q417 wdJ2_size mdJ2_size (jwm 3 rfl hz2) (by rfl) (by rfl) rfl (Nat.le_of_ble_eq_true rfl) (Nat.le_of_ble_eq_true rfl) (by omega) (Nat.le_of_ble_eq_true rfl) (q := 75) rfl (fun v wd hpost => ?_)
        obtain ⟨rfl, rfl⟩ := hpost
        dsimp only [List.cons_append, List.nil_append, Option.toList]
        refine j_icgeT o 113 dX2_rehash_75 (by decide) (nI_le (by omega) (by omega)) ?_
        exact j_vret o r dX2_rehash_113 [_, _, _] _ rfl (⟨rfl, h2, ess2, w2, we2, rfl, d5, d6⟩) (by omega)
      | succ d ih =>
        intro k F2 ess2 w2 we2 u9 d1 d2 d3 d4 d5 d6 d7 d8 d9 d10
        obtain ⟨r9, hr9⟩ := get_ex (xs := alR B) (i := k) (by omega)
        obtain ⟨e9, he9⟩ := get_ex (xs := ess.flatten) (i := k) (by omega)
        have hen := d7.2 k e9 r9 he9 hr9
        have hd : (alR B).drop k = r9 :: (alR B).drop (k + 1) := (by rw [List.drop_eq_getElem_cons (by omega)]; congr 1; rw [List.getElem?_eq_getElem (by omega)] at hr9; exact Option.some.inj hr9)
        have hrb : r9.1 < 10000 ∧ r9.2 < 10000 := (by
          obtain ⟨i, b, a1, a2⟩ := alR_mem.mp (List.mem_of_getElem? hr9)
          have := (hV.2 i b a1).1 r9 a2
          exact ⟨this.1, this.2.1⟩)
        rw [hd] at d8 d9 d10
        have hno := d8 r9 (by simp)
        have hg := fGet_none (ch := fCh F2) (sd := fSd F2) d2.1.1.2.2.1 hno
        obtain ⟨p1, p2, p3, p4⟩ := fPut_inv (k := r9.1) (v := r9.2) d2 hrb.1 hrb.2 (fun _ => by omega)
        rw [hg] at p4
        have p4 : rws (fB (fPut F2 r9.1 r9.2)) = rws (fB F2) + 1 := p4
        have hR2 := isSt.r (S := w2) d5 (fun _ h => h)
        obtain ⟨bl2, tk2, qs2, z1, -⟩ := hR2
        have hu2 : uPs F2 (r9 :: (alR B).drop (k + 1)) = uPut F2 r9.1 r9.2 + uPs (fPut F2 r9.1 r9.2) ((alR B).drop (k + 1)) := rfl
        rw [hu2] at d10
        have hnd2 : (((alR B).drop k).map (·.1)).Nodup := (by rw [List.map_drop]; exact hnd.sublist (List.drop_sublist _ _))
        rw [hd] at hnd2
        have hnd3 := List.nodup_cons.mp hnd2
        refine j_ild o dX2_rehash_69 rfl (q := 71) rfl ?_
        refine j_ald_n o dX2_rehash_71 rfl rfl (q := 72) rfl ?_
        refine j_callV0 o (ctJ2_size hG _ (jwl 3 rfl hz2)) dX2_rehash_72 q417 wdJ2_size mdJ2_size (jwm 3 rfl hz2) (by rfl) (by rfl) rfl (Nat.le_of_ble_eq_true rfl) (Nat.le_of_ble_eq_true rfl) (by omega) (Nat.le_of_ble_eq_true rfl) (q := 75) rfl (fun v wd hpost => ?_)
        obtain ⟨rfl, rfl⟩ := hpost
        dsimp only [List.cons_append, List.nil_append, Option.toList]
        refine j_icgeF o (t := 113) dX2_rehash_75 (by decide) (q := 78) rfl (nI_ge (by omega) (by omega)) ?_
        refine j_ald_n o dX2_rehash_78 rfl rfl (q := 79) rfl ?_
        refine j_ald_n o dX2_rehash_79 rfl rfl (q := 80) rfl ?_
        refine j_ild o dX2_rehash_80 rfl (q := 82) rfl ?_
        refine j_callV0 o (ctJ2_get hG _ (hAr.mono (fun _ hc => jwl 3 rfl hc)) he9) dX2_rehash_82 q418 wdJ2_get mdJ2_get (jwm 3 rfl hz2) (by rfl) (by rfl) rfl (Nat.le_of_ble_eq_true rfl) (Nat.le_of_ble_eq_true rfl) (by omega) (Nat.le_of_ble_eq_true rfl) (q := 85) rfl (fun v wd hpost => ?_)
        obtain ⟨rfl, rfl⟩ := hpost
        dsimp only [List.cons_append, List.nil_append, Option.toList]
        refine j_castS (r := (RX11, TX11, 2)) o dX2_rehash_85 q435 (jwm 1 rfl hen) (ci := 11) rfl (q := 88) rfl ?_
        refine j_gf o dX2_rehash_88 (jwm 1 rfl hen) kcX11 0 (Nat.le_of_ble_eq_true rfl) q448 rfl (q := 91) rfl ?_
        refine j_ald_n o dX2_rehash_91 rfl rfl (q := 92) rfl ?_
        refine j_ild o dX2_rehash_92 rfl (q := 94) rfl ?_
        refine j_callV0 o (ctJ2_get hG _ (hAr.mono (fun _ hc => jwl 3 rfl hc)) he9) dX2_rehash_94 q418 wdJ2_get mdJ2_get (jwm 3 rfl hz2) (by rfl) (by rfl) rfl (Nat.le_of_ble_eq_true rfl) (Nat.le_of_ble_eq_true rfl) (by omega) (Nat.le_of_ble_eq_true rfl) (q := 97) rfl (fun v wd hpost => ?_)
        obtain ⟨rfl, rfl⟩ := hpost
        dsimp only [List.cons_append, List.nil_append, Option.toList]
        refine j_castS (r := (RX11, TX11, 2)) o dX2_rehash_97 q435 (jwm 1 rfl hen) (ci := 11) rfl (q := 100) rfl ?_
        refine j_gf o dX2_rehash_100 (jwm 1 rfl hen) kcX11 1 (Nat.le_of_ble_eq_true rfl) q450 rfl (q := 103) rfl ?_
        refine j_callV2 o (ctX2_put hG _ d5 d6 (by rw [show fCh F2 = ch2 from congrArg Prod.fst d3, show fSd F2 = sd2 from congrArg Prod.snd d3]; exact jwl 0 rfl List.mem_cons_self) d2 hrb.1 hrb.2 (fun _ => by omega)) dX2_rehash_103 q622 wdX2_put mdX2_put (jwm 0 rfl z1) (by rfl) (by rfl) rfl (Nat.le_of_ble_eq_true rfl) (Nat.le_of_ble_eq_true rfl) (by omega) (Nat.le_of_ble_eq_true rfl) (q := 106) rfl (fun v wd hpost => ?_)
        obtain ⟨rfl, ess3, w3, we3, rfl, hS3, hE3, hmo⟩ := hpost
        dsimp only [List.cons_append, List.nil_append, Option.toList]
        refine j_pop o dX2_rehash_106 rfl (q := 107) rfl ?_
        refine j_inc4 o (nI (k + 1)) dX2_rehash_107 (by first | exact nI_1 _ | exact pk_m1 _ | rfl) rfl (q := 110) rfl ?_
        refine j_goto o 69 dX2_rehash_110 (by decide) ?_
        exact ih (k + 1) (fPut F2 r9.1 r9.2) ess3 w3 we3 _ (by omega) p1 (p3.trans d3) (by omega) hS3 hE3 (d7.mono (hmo hg)) (fun x hx hk => by rcases inK_put d2 hrb.1 hrb.2 hg (by omega) hk with hk | hk; exact d8 x (by simp [hx]) hk; exact hnd3.1 (List.mem_map.mpr ⟨x, hx, hk⟩)) d9 (by omega)
    exact loop (alR B).length 0 ((cap, lo, up), (ch2, sd2), (sp, mg), bgn) [[], []] w2 we _ (by omega) ⟨bgn_inv f1 f2, hc, hs9, hlo, hup, hup9⟩ rfl bgn_lv.2.2 hS2 ⟨rfl, fun i e b a1 a2 => bgn_ent a1 a2⟩ hX (fun x _ hk => bgn_no hk) rfl (by rw [List.drop_zero]; omega)
  have loop : ∀ (d k : Nat) (a : Nat) (wa : va_W) (u9 : Nat), k + d = B.length → AL g a (ess.take k).flatten wa → u9 + uRA cap (B.drop k) (ess.take k).flatten.length ≤ 1 + uRA cap B 0 → J g Y [wa, w, we] u9 11 [some (.ref q), some (.int (nI ch2)), some (.int (nI sd2)), some (.ref a), some (.int (nI k))] [] := by
    intro d
    induction d with
    | zero =>
      intro k a wa u9 d1 d2 d3
      have hk9 : k = B.length := (by omega)
      subst hk9
      rw [List.take_of_length_le (by omega)] at d2
      refine j_ild o dX2_rehash_11 rfl (q := 13) rfl ?_
      refine j_ald_n o dX2_rehash_13 rfl rfl (q := 14) rfl ?_
      refine j_gf o dX2_rehash_14 (jwm 1 rfl e1) kcX2 9 (Nat.le_of_ble_eq_true rfl) q309 rfl (q := 17) rfl ?_
      refine j_callV0 o (ctJ2_size hG _ (jwl 1 rfl hz1)) dX2_rehash_17 q417 wdJ2_size mdJ2_size (jwm 1 rfl hz1) (by rfl) (by rfl) rfl (Nat.le_of_ble_eq_true rfl) (Nat.le_of_ble_eq_true rfl) (by omega) (Nat.le_of_ble_eq_true rfl) (q := 20) rfl (fun v wd hpost => ?_)
      obtain ⟨rfl, rfl⟩ := hpost
      dsimp only [List.cons_append, List.nil_append, Option.toList]
      refine j_icgeT o 49 dX2_rehash_20 (by decide) (nI_le (by omega) (by omega)) ?_
      exact fin a wa u9 d2 (by omega)
    | succ d ih =>
      intro k a wa u9 d1 d2 d3
      obtain ⟨qb, hqb⟩ := get_ex (xs := qs0) (i := k) (by omega)
      obtain ⟨es, hes⟩ := get_ex (xs := ess) (i := k) (by omega)
      have hB := bAt_ex (B := B) (i := k) (by omega)
      have hbR := e6 k qb _ es hqb hB hes
      have hER := hE.2 k es _ hes hB
      have hERt := ess_take hE k
      obtain ⟨k1, k2, k3, k4, k5⟩ := hwf.at (i := k) (by omega)
      have hrk := rws_at (B := B) (i := k) (by omega)
      have hER1 := hER.1
      obtain ⟨cb, ps, c1, c2, c3⟩ := hbR
      have hd : B.drop k = bAt B k :: B.drop (k + 1) := (by rw [List.drop_eq_getElem_cons (by omega)]; congr 1; rw [List.getElem?_eq_getElem (by omega)] at hB; exact Option.some.inj hB)
      have htl : (ess.take k).flatten.length ≤ 60 := (by rw [hERt.1, alR_len]; have := rws_take B k; omega)
      have e9 : (ess.take (k + 1)).flatten = (ess.take k).flatten ++ es := by rw [List.take_add_one, hes]; simp
      rw [hd] at d3
      have hu3 : uRA cap (bAt B k :: B.drop (k + 1)) (ess.take k).flatten.length = uBall cap (bAt B k).1.length (bAt B k).2.1.length + uAll (ess.take k).flatten.length (bAt B k).1.length + uRA cap (B.drop (k + 1)) ((ess.take k).flatten.length + (bAt B k).1.length) := rfl
      rw [hu3, ← hER1] at d3
      refine j_ild o dX2_rehash_11 rfl (q := 13) rfl ?_
      refine j_ald_n o dX2_rehash_13 rfl rfl (q := 14) rfl ?_
      refine j_gf o dX2_rehash_14 (jwm 1 rfl e1) kcX2 9 (Nat.le_of_ble_eq_true rfl) q309 rfl (q := 17) rfl ?_
      refine j_callV0 o (ctJ2_size hG _ (jwl 1 rfl hz1)) dX2_rehash_17 q417 wdJ2_size mdJ2_size (jwm 1 rfl hz1) (by rfl) (by rfl) rfl (Nat.le_of_ble_eq_true rfl) (Nat.le_of_ble_eq_true rfl) (by omega) (Nat.le_of_ble_eq_true rfl) (q := 20) rfl (fun v wd hpost => ?_)
      obtain ⟨rfl, rfl⟩ := hpost
      dsimp only [List.cons_append, List.nil_append, Option.toList]
      refine j_icgeF o (t := 49) dX2_rehash_20 (by decide) (q := 23) rfl (nI_ge (by omega) (by omega)) ?_
      refine j_ald_n o dX2_rehash_23 rfl rfl (q := 24) rfl ?_
      refine j_ald_n o dX2_rehash_24 rfl rfl (q := 25) rfl ?_
      refine j_gf o dX2_rehash_25 (jwm 1 rfl e1) kcX2 9 (Nat.le_of_ble_eq_true rfl) q309 rfl (q := 28) rfl ?_
      refine j_ild o dX2_rehash_28 rfl (q := 30) rfl ?_
      refine j_callV0 o (ctJ2_get hG _ (e3.mono (fun _ hc => jwl 1 rfl hc)) hqb) dX2_rehash_30 q418 wdJ2_get mdJ2_get (jwm 1 rfl hz1) (by rfl) (by rfl) rfl (Nat.le_of_ble_eq_true rfl) (Nat.le_of_ble_eq_true rfl) (by omega) (Nat.le_of_ble_eq_true rfl) (q := 33) rfl (fun v wd hpost => ?_)
      obtain ⟨rfl, rfl⟩ := hpost
      dsimp only [List.cons_append, List.nil_append, Option.toList]
      refine j_castS (r := (RX4, TX4, 2)) o dX2_rehash_33 q174 (jwm 1 rfl c1) (ci := 4) rfl (q := 36) rfl ?_
      refine j_callV0 o (ctX4_all hG _ (cap := cap) (es := es) (pages := (bAt B k).2.1) ⟨cb, ps, jwl 1 rfl c1, c2.mono (fun _ hc => jwl 1 rfl hc), c3.mono (fun _ hc => jwl 1 rfl hc)⟩ (fun y hy => (hER.el y hy).mono (fun _ hc => jwl 2 rfl hc)) (by omega) (by omega)) dX2_rehash_36 q563 wdX4_all mdX4_all (jwm 1 rfl c1) (by rfl) (by rfl) rfl (Nat.le_of_ble_eq_true rfl) (Nat.le_of_ble_eq_true rfl) (by omega) (Nat.le_of_ble_eq_true rfl) (q := 39) rfl (fun v wd hpost => ?_)
      obtain ⟨ab, wb, rfl, rfl, hAb⟩ := hpost
      dsimp only [List.cons_append, List.nil_append, Option.toList]
      refine j_mv1 ?_
      have d29 := d2
      obtain ⟨m3, b3, hA3⟩ := d29
      obtain ⟨t3, rfl, -⟩ := hA3.head
      refine j_callV1 o (ctJ2_addAll hG _ d2 (hAb.r (fun c hc => jwl 0 rfl hc)) (fun y hy => (hERt.el y hy).mono (fun _ hc => jwl 2 rfl hc)) (fun y hy => (hER.el y hy).mono (fun _ hc => jwl 2 rfl hc)) (by omega)) dX2_rehash_39 q621 wdJ2_addAll mdJ2_addAll (jw 0 0 rfl rfl) (by rfl) (by rfl) rfl (Nat.le_of_ble_eq_true rfl) (Nat.le_of_ble_eq_true rfl) (by omega) (Nat.le_of_ble_eq_true rfl) (q := 42) rfl (fun v wd hpost => ?_)
      obtain ⟨⟨z, rfl⟩, wa2, rfl, hA4⟩ := hpost
      dsimp only [List.cons_append, List.nil_append, Option.toList]
      rw [← e9] at hA4
      refine j_mv1 ?_
      refine j_drop ?_
      refine j_pop o dX2_rehash_42 rfl (q := 43) rfl ?_
      refine j_inc4 o (nI (k + 1)) dX2_rehash_43 (by first | exact nI_1 _ | exact pk_m1 _ | rfl) rfl (q := 46) rfl ?_
      refine j_goto o 11 dX2_rehash_46 (by decide) ?_
      exact ih (k + 1) a wa2 _ (by omega) hA4 (by rw [e9, List.length_append]; omega)
  refine j_new o (fs := fdJ2) 1 dX2_rehash_0 kcJ2 q133 q134 q69 dfJ2 (by omega) (by decide) (q := 3) rfl (fun a hb_a => ?_)
  refine j_dup o dX2_rehash_3 rfl (q := 4) rfl ?_
  refine j_callI1 o (ctJ2_init hG _ a) dX2_rehash_4 q135 wdJ2_init mdJ2_init rfl rfl (Nat.le_of_ble_eq_true rfl) (Nat.le_of_ble_eq_true rfl) (by omega) (Nat.le_of_ble_eq_true rfl) (q := 7) rfl (fun v wd hpost => ?_)
  obtain ⟨rfl, wa, rfl, hA⟩ := hpost
  dsimp only [List.cons_append, List.nil_append, Option.toList]
  refine j_ast3 o dX2_rehash_7 rfl rfl (hN 3 (Nat.le_of_ble_eq_true rfl)) (q := 8) rfl ?_
  refine j_iconst o (nI 0) dX2_rehash_8 (by decide) (q := 9) rfl ?_
  refine j_ist4 o dX2_rehash_9 rfl (hN 4 (Nat.le_of_ble_eq_true rfl)) (q := 11) rfl ?_
  exact loop B.length 0 a wa _ (by omega) (by simpa using hA) (by simp)

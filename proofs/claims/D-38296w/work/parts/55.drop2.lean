/-! THE STORE, eleventh: drop -/
set_option maxRecDepth 100000
theorem wfK.dr {cap i : Nat} {b : Bkt} {x : Row} (h : wfK cap b) (hc : 2 ≤ cap) (h0 : 0 < b.1.length) : wfK cap (drR b.1 i x, trm cap (b.1.length - 1) b.2.1, b.2.2) := by
  obtain ⟨h1, h2, h3, h4, h5⟩ := h
  have e3 := pg_sub (cap := cap) h1
  have hl : (drR b.1 i x).length = b.1.length - 1 := by simp [drR]
  unfold trm
  by_cases hc : 1 < b.2.1.length ∧ b.1.length - 1 ≤ (b.2.1.length - 1) * cap
  · rw [if_pos hc]
    have e4 := pg_sub (cap := cap) (m := b.2.1.length - 1) (by omega)
    refine ⟨by simp; omega, ?_, ?_, h4, fun p hp => h5 p ((List.dropLast_sublist _).subset hp)⟩
    · simp only [hl, List.length_dropLast]
      exact hc.2
    · simp only [hl, List.length_dropLast]
      rcases h3 with h3 | h3
      · omega
      · right; omega
  · rw [if_neg hc]
    refine ⟨h1, ?_, ?_, h4, h5⟩
    · simp only [hl]; omega
    · simp only [hl]
      rcases h3 with h3 | h3
      · exact Or.inl h3
      · by_cases h9 : b.2.1.length = 1
        · exact Or.inl h9
        · right; omega
theorem trm_cases (cap k : Nat) (ps : List Nat) : (trm cap k ps = ps ∧ ¬ (1 < ps.length ∧ k ≤ (ps.length - 1) * cap)) ∨ ((1 < ps.length ∧ k ≤ (ps.length - 1) * cap) ∧ trm cap k ps = ps.dropLast) := by
  unfold trm
  split
  · rename_i h; exact Or.inr ⟨h, rfl⟩
  · rename_i h; exact Or.inl ⟨rfl, h⟩
theorem trm_sub {cap k : Nat} {ps : List Nat} : ∀ p ∈ trm cap k ps, p ∈ ps := by
  intro p hp
  rcases trm_cases cap k ps with h | h
  · rw [h.1] at hp; exact hp
  · rw [h.2] at hp; exact (List.dropLast_sublist _).subset hp
theorem trm_nd {cap k : Nat} {ps : List Nat} (h : ps.Nodup) : (trm cap k ps).Nodup := by
  rcases trm_cases cap k ps with h1 | h1
  · rw [h1.1]; exact h
  · rw [h1.2]; exact h.sublist (List.dropLast_sublist _)
theorem Inv.dr {cap ch sd key i : Nat} {B : List Bkt} {r x : Row} (h : Inv cap ch sd B) (hF : jFst ((bAt B (bOf ch sd B key)).1.map (·.1)) key i) (hr : (bAt B (bOf ch sd B key)).1[i]? = some r) (hx : (bAt B (bOf ch sd B key)).1[(bAt B (bOf ch sd B key)).1.length - 1]? = some x) : Inv cap ch sd (B.set (bOf ch sd B key) (drB cap (bAt B (bOf ch sd B key)) key)) ∧ rws (B.set (bOf ch sd B key) (drB cap (bAt B (bOf ch sd B key)) key)) + 1 = rws B := by
  obtain ⟨hf, ha⟩ := h
  have hi : bOf ch sd B key < B.length := adr_lt (by have := hf.2.2.1; omega)
  have hB := bAt_ex hi
  rw [drB_eq hF hr hx]
  have hl := get_lt hx
  have hrw := rws_set (b := (drR (bAt B (bOf ch sd B key)).1 i x, trm cap ((bAt B (bOf ch sd B key)).1.length - 1) (bAt B (bOf ch sd B key)).2.1, (bAt B (bOf ch sd B key)).2.2)) hi
  have e : (drR (bAt B (bOf ch sd B key)).1 i x).length = (bAt B (bOf ch sd B key)).1.length - 1 := by simp [drR]
  simp only [e] at hrw
  obtain ⟨h1, h2, h3, h4, h5, h6, h7⟩ := hf
  obtain ⟨a1, a2⟩ := ha _ _ hB
  refine ⟨⟨⟨h1, h2, by simpa using h3, by simpa using h4, by omega, h6.set ((h6.at hi).dr h1 (by omega)), h7.set (trm_nd (h7.1 _ (List.mem_of_getElem? hB))) (fun j c k hj hc hk hk2 => hj (h7.2 j _ c _ k hc hB hk2 (trm_sub k hk)))⟩, ha.set (fun y hy => a1 y (drR_mem hx hy)) ?_⟩, by omega⟩
  show ((drR _ i x).map _).Nodup
  rw [drR_map]
  exact drR_nd (by rw [List.length_map, List.getElem?_map, hx]; rfl) a2
def uMrgN (cap ch sd lo : Nat) : Nat → List Bkt → Nat
  | 0, _ => 0
  | d + 1, B => if lod cap B < lo ∧ 2 < B.length then uMrg cap ch sd B.dropLast (bAt B (B.length - 1)) + uMrgN cap ch sd lo d (mrgB cap ch sd B) else 0
def uDrop (F : Fl) (k : Nat) : Nat := uMrgN (fC F) (fCh F) (fSd F) (fLo F) 64 ((fB F).set (bOf (fCh F) (fSd F) (fB F) k) (drB (fC F) (bAt (fB F) (bOf (fCh F) (fSd F) (fB F) k)) k))
theorem snoc_ex {α : Type} {xs : List α} (h : 0 < xs.length) : ∃ x0 x, xs = x0 ++ [x] := ⟨xs.dropLast, xs.getLast (by intro e; rw [e] at h; simp at h), (List.dropLast_concat_getLast _).symm⟩
theorem mrgN_inv {cap ch sd lo : Nat} : ∀ (d : Nat) (B : List Bkt) (s : Nat), Inv cap ch sd B → Inv cap ch sd (mrgN cap ch sd lo d (B, s)).1 ∧ rws (mrgN cap ch sd lo d (B, s)).1 = rws B := by
  intro d
  induction d with
  | zero => intro B s h; exact ⟨h, rfl⟩
  | succ d ih =>
    intro B s h
    unfold mrgN
    by_cases hc : lod cap B < lo ∧ 2 < B.length
    · rw [if_pos hc]
      obtain ⟨B0, b, rfl⟩ := snoc_ex (xs := B) (by omega)
      obtain ⟨a1, a2, a3⟩ := h.mrg (by have := hc.2; simp at this; omega)
      obtain ⟨b1, b2⟩ := ih (mrgB cap ch sd (B0 ++ [b])) (s + 1) a1
      exact ⟨b1, by rw [b2, a3]⟩
    · rw [if_neg hc]
      exact ⟨h, rfl⟩
theorem InvF.drop {F : Fl} {k i : Nat} {r x : Row} (h : InvF F) (hF : jFst ((bAt (fB F) (bOf (fCh F) (fSd F) (fB F) k)).1.map (·.1)) k i) (hr : (bAt (fB F) (bOf (fCh F) (fSd F) (fB F) k)).1[i]? = some r) (hx : (bAt (fB F) (bOf (fCh F) (fSd F) (fB F) k)).1[(bAt (fB F) (bOf (fCh F) (fSd F) (fB F) k)).1.length - 1]? = some x) : InvF (fDrop F k) := by
  obtain ⟨h1, h2⟩ := h
  exact ⟨(mrgN_inv _ _ _ (h1.dr hF hr hx).1).1, h2⟩
theorem fPut_inv {F : Fl} {k v : Nat} (h : InvF F) (hk : k < 10000) (hv : v < 10000) (hroom : fGet (fCh F) (fSd F) (fB F) k = none → rws (fB F) < 60) : InvF (fPut F k v) ∧ (fPut F k v).1 = F.1 ∧ (fPut F k v).2.1 = F.2.1 ∧ rws (fB (fPut F k v)) = rws (fB F) + (match fGet (fCh F) (fSd F) (fB F) k with | some _ => 0 | none => 1) := by
  obtain ⟨h1, h2⟩ := h
  have hf := h1.1
  have f3 := hf.2.2.1
  have hi : bOf (fCh F) (fSd F) (fB F) k < (fB F).length := adr_lt (by omega)
  have hB := bAt_ex hi
  unfold fPut
  dsimp only
  cases hg : fGet (fCh F) (fSd F) (fB F) k with
  | some v0 =>
    dsimp only
    have hg2 := hg
    unfold fGet at hg2
    obtain ⟨r, hr, -⟩ := Option.map_eq_some_iff.mp hg2
    obtain ⟨hrk, hrm⟩ : r.1 = k ∧ r ∈ (bAt (fB F) (bOf (fCh F) (fSd F) (fB F) k)).1 := ⟨by simpa using List.find?_some hr, List.mem_of_find?_eq_some hr⟩
    have hplc : ∃ y, (bAt (fB F) (bOf (fCh F) (fSd F) (fB F) k)).1[plc (bAt (fB F) (bOf (fCh F) (fSd F) (fB F) k)).1 k]? = some y ∧ y.1 = k := by
      have hlt : plc (bAt (fB F) (bOf (fCh F) (fSd F) (fB F) k)).1 k < (bAt (fB F) (bOf (fCh F) (fSd F) (fB F) k)).1.length := List.findIdx_lt_length_of_exists ⟨r, hrm, by simpa using hrk⟩
      exact ⟨_, List.getElem?_eq_getElem hlt, of_decide_eq_true (List.findIdx_getElem (p := fun r : Row => decide (r.1 = k)) (w := hlt))⟩
    obtain ⟨y, hy, hyk⟩ := hplc
    obtain ⟨a1, a2⟩ := h1.2 _ _ hB
    have hrw := rws_set (b := ovB (bAt (fB F) (bOf (fCh F) (fSd F) (fB F) k)) k v) hi
    have e : (ovB (bAt (fB F) (bOf (fCh F) (fSd F) (fB F) k)) k v).1.length = (bAt (fB F) (bOf (fCh F) (fSd F) (fB F) k)).1.length := by simp [ovB]
    obtain ⟨g1, g2, g3, g4, g5, g6, g7⟩ := hf
    obtain ⟨k1, k2, k3, k4, k5⟩ := g6.at hi
    refine ⟨⟨⟨⟨g1, g2, by show 2 ≤ ((fB F).set _ _).length; rw [List.length_set]; exact g3, by show ((fB F).set _ _).length ≤ 60; rw [List.length_set]; exact g4, by show rws ((fB F).set _ _) + 0 ≤ 60; omega, g6.set ⟨k1, by rw [e]; exact k2, by rw [e]; exact k3, k4, k5⟩, g7.set (g7.1 _ (List.mem_of_getElem? hB) : (bAt (fB F) (bOf (fCh F) (fSd F) (fB F) k)).2.1.Nodup) (fun j c k hj hc hk hk2 => hj (g7.2 j _ c _ k hc hB hk2 hk))⟩, h1.2.set (fun z hz => ?_) ?_⟩, h2⟩, rfl, rfl, by show rws ((fB F).set _ _) = _; omega⟩
    · rcases List.mem_or_eq_of_mem_set hz with hz | hz
      · exact a1 z hz
      · obtain ⟨c1, c2, c3, c4⟩ := a1 y (List.mem_of_getElem? hy)
        rw [hyk] at c3 c4
        rw [hz]
        exact ⟨hk, hv, c3, c4⟩
    · have em : (ovB (bAt (fB F) (bOf (fCh F) (fSd F) (fB F) k)) k v).1.map (·.1) = (bAt (fB F) (bOf (fCh F) (fSd F) (fB F) k)).1.map (·.1) := by
        apply List.ext_getElem?
        intro j
        simp only [ovB, List.map_set]
        by_cases hj : j = plc (bAt (fB F) (bOf (fCh F) (fSd F) (fB F) k)).1 k
        · subst hj
          rw [List.getElem?_set_self (by rw [List.length_map]; exact get_lt hy), List.getElem?_map, hy, ← hyk]
          rfl
        · rw [List.getElem?_set_ne (fun e => hj e.symm)]
      rw [em]
      exact a2
  | none =>
    dsimp only
    have hroom := hroom hg
    have hno : k ∉ (bAt (fB F) (bOf (fCh F) (fSd F) (fB F) k)).1.map (·.1) := by
      intro hm
      obtain ⟨r, hr, hrk⟩ := List.mem_map.mp hm
      unfold fGet at hg
      have := List.find?_eq_none.mp (Option.map_eq_none_iff.mp hg) r hr
      simp at this
      exact this hrk
    obtain ⟨g1, g2, g3, g4, g5, g6, g7⟩ := hf
    have hall := Inv_all (cap := fC F) (ch := fCh F) (sd := fSd F) (rs := [(k, v)]) (B := fB F) ⟨g1, g2, g3, g4, by show rws (fB F) + 1 ≤ 60; omega, g6, g7⟩ h1.2 (fun z hz => by rw [List.mem_singleton.mp hz]; exact ⟨hk, hv⟩) (fun z hz => by rw [List.mem_singleton.mp hz]; exact h1.2.noK hno) (by simp)
    have e1 : apAll (fC F) (fCh F) (fSd F) (fB F) [(k, v)] = fApp (fC F) (fCh F) (fSd F) (fB F) (k, v) := rfl
    rw [e1] at hall
    obtain ⟨b1, b2⟩ := splN_inv (up := fUp F) h2.2.2.2.1 64 (fApp (fC F) (fCh F) (fSd F) (fB F) (k, v)) (fSp F) hall.1
    exact ⟨⟨b1, h2⟩, rfl, rfl, by show rws (splN _ _ _ _ 64 _).1 = _; rw [b2, hall.2.2]; rfl⟩
theorem entR_dr {S : va_W} {es : List Nat} {rs : List Row} {i eL : Nat} {x : Row} (h : entR S es rs) (he : es[es.length - 1]? = some eL) (hx : rs[rs.length - 1]? = some x) : entR S (drR es i eL) (drR rs i x) := by
  have hl := h.1
  refine ⟨by simp [drR, hl], fun k e r h1 h2 => ?_⟩
  obtain ⟨k1, a1, a2, a3⟩ := drR_get he h1
  obtain ⟨k2, b1, b2, b3⟩ := drR_get hx h2
  have e2 : k1 = k2 := by omega
  subst e2
  exact h.2 k1 e r a1 b1
theorem ctX2_drop {l : Launch} {g : jG} (hG : GS l g) (bg : va_W) {q hs k i : Nat} {F : Fl} {ess : List (List Nat)} {w : va_W} {r9 : Row} (hS : isF g hs q F ess w) (hE : entB bg ess (fB F)) (hh : (hs, hsO (fCh F) (fSd F)) ∈ bg) (hI9 : InvF F) (hk : k < 10000) (hF : jFst ((bAt (fB F) (bOf (fCh F) (fSd F) (fB F) k)).1.map (·.1)) k i) (hr9 : (bAt (fB F) (bOf (fCh F) (fSd F) (fB F) k)).1[i]? = some r9) : KX2_drop l g 11 (uDrop F k) [.ref q, .int (nI k)] bg [w] (fun v wd => v = none ∧ ∃ ess2 w2, wd = [w2] ∧ isF g hs q (fDrop F k) ess2 w2 ∧ ∀ S, entB S ess (fB F) → entB S ess2 (fB (fDrop F k))) := by
  obtain ⟨⟨cap, lo, up⟩, ⟨ch, sd⟩, ⟨sp, mg⟩, B⟩ := F
  obtain ⟨hV, hc, hs9, hlo, hup, hup9⟩ := hI9
  dsimp only [fC, fLo, fUp, fCh, fSd, fSp, fMg, fB] at hS hE hh hV hc hs9 hlo hup hup9 hF hr9 ⊢
  have hf := hV.1
  have f1 := hf.1
  have f2 := hf.2.1
  have f3 := hf.2.2.1
  have f4 := hf.2.2.2.1
  have f5 := hf.2.2.2.2.1
  have hnd := hf.2.2.2.2.2.2
  have hi : bOf ch sd B k < B.length := adr_lt (by omega)
  have hS : isSt g hs q (cap, lo, up, sp, mg) (lvl B.length) (ptr B.length) (rws B) B ess w := hS
  have hlv := lvl_lt (n := B.length) (by omega)
  have hpl := ptr_le (n := B.length)
  have hil := get_lt hr9
  obtain ⟨x9, hx9⟩ := get_ex (xs := (bAt B (bOf ch sd B k)).1) (i := (bAt B (bOf ch sd B k)).1.length - 1) (by omega)
  have hdrI := hV.dr hF hr9 hx9
  have hdrE := drB_eq (cap := cap) hF hr9 hx9
  have hFdef : fDrop ((cap, lo, up), (ch, sd), (sp, mg), B) k = ((cap, lo, up), (ch, sd), (sp, (mrgN cap ch sd lo 64 (B.set (bOf ch sd B k) (drB cap (bAt B (bOf ch sd B k)) k), mg)).2), (mrgN cap ch sd lo 64 (B.set (bOf ch sd B k) (drB cap (bAt B (bOf ch sd B k)) k), mg)).1) := rfl
  have hUdef : uDrop ((cap, lo, up), (ch, sd), (sp, mg), B) k = uMrgN cap ch sd lo 64 (B.set (bOf ch sd B k) (drB cap (bAt B (bOf ch sd B k)) k)) := rfl
  generalize hU9 : uDrop ((cap, lo, up), (ch, sd), (sp, mg), B) k = U9 at hUdef ⊢
  generalize hb9 : bAt B (bOf ch sd B k) = b at *
  obtain ⟨k1, k2, k3, k4, k5⟩ := hb9 ▸ hf.2.2.2.2.2.1.at hi
  have hm10 : b.2.1.length < 2 ^ 10 := hb9 ▸ hf.m16 hi
  have hrw : b.1.length ≤ rws B := hb9 ▸ rws_at hi
  have e3 := pg_sub (cap := cap) k1
  have k3b : (b.2.1.length - 1) * cap < b.1.length := by
    rcases k3 with h | h
    · rw [h]; simp; omega
    · exact h
  obtain ⟨bl, tk, qs, wbl, wsb, hperm, hA, hBk⟩ := hS
  obtain ⟨qb, hqb⟩ := get_ex (xs := qs) (i := bOf ch sd B k) (by rw [hBk.1]; exact hi)
  obtain ⟨es, wb, R, hes, hp1, hB1, hcl⟩ := isBks_open hBk hqb
  rw [hb9] at hB1
  have hER : entR bg es b.1 := hb9 ▸ hE.2 _ es _ hes (bAt_ex hi)
  have hER1 := hER.1
  obtain ⟨chn, ps, hP1⟩ := hB1.p
  have hperm2 : w.Perm (jflat [[(tk, tkO g (usd B))], wb, [(q, stO (cap, lo, up, sp, mg) (lvl B.length) (ptr B.length) (rws B) hs bl tk)], wbl, R]) := (by letI : DecidableEq (Nat × va_E) := fun _ _ => Classical.propDecidable _; exact List.perm_iff_count.mpr (fun a_ => by have e0_ := List.Perm.count_eq (hperm) a_; have e1_ := List.Perm.count_eq (hp1) a_; simp only [List.flatten_cons, List.flatten_nil, jflat, List.cons_append, List.nil_append, List.count_append, List.count_cons, List.append_nil, List.count_nil, List.flatten_append, bkO, pgO, stO, eO, tkO, eA] at e0_ e1_ ⊢; omega))
  obtain ⟨c1, c2, c3⟩ := hP1.r (S := wb) (fun _ h => h)
  obtain ⟨e9, he9⟩ := get_ex (xs := es) (i := i) (by omega)
  obtain ⟨eL, heL⟩ := get_ex (xs := es) (i := es.length - 1) (by omega)
  have heLr := hER.2 (es.length - 1) eL x9 heL (by rw [hER1]; exact hx9)
  have hAr : ALR g wbl bl qs := hA.r (fun c hc => hc)
  have hks : ∀ r ∈ b.1, r.1 < 2 ^ 31 := hb9 ▸ hV.rk hi
  have hpl2 := hBk.1
  obtain ⟨m7, b7, hz7, -⟩ := id c2
  refine Ctr.of [some (.ref q), some (.int (nI k)), none, none, none] hG (by decide +kernel) rfl (Nat.le_of_ble_eq_true rfl) (fun Y hl hN0 o r hI => ?_)
  subst hl
  have hN : ∀ i, i < 5 → i < yN Y := fun i h => by rw [hN0]; exact h
  rw [hFdef] at r
  refine j_spP _ (hperm2) ?_
  dsimp only [List.cons_append, List.nil_append]
  refine j_ald_n o dX2_drop_0 rfl rfl (q := 1) rfl ?_
  refine j_ild_n o dX2_drop_1 rfl (q := 2) rfl ?_
  refine j_callV0 o (ctX2_bucketOf hG _ (F := (cap, lo, up, sp, mg)) (jwl 2 rfl List.mem_cons_self) (jmr hh) (hAr.mono (fun _ hc => jwl 3 rfl hc)) hlv (by omega) hc hs9 (by omega) (by rw [← adr_ad f3]; exact hqb) (jwl 1 rfl c1)) dX2_drop_2 q488 wdX2_bucketOf mdX2_bucketOf (jw 2 0 rfl rfl) (by rfl) (by rfl) rfl (Nat.le_of_ble_eq_true rfl) (Nat.le_of_ble_eq_true rfl) (by omega) (Nat.le_of_ble_eq_true rfl) (q := 5) rfl (fun v wd hpost => ?_)
  obtain ⟨rfl, rfl⟩ := hpost
  dsimp only [List.cons_append, List.nil_append, Option.toList]
  refine j_ast2 o dX2_drop_5 rfl rfl (hN 2 (Nat.le_of_ble_eq_true rfl)) (q := 6) rfl ?_
  refine j_ald_n o dX2_drop_6 rfl rfl (q := 7) rfl ?_
  refine j_ild_n o dX2_drop_7 rfl (q := 8) rfl ?_
  refine j_callV0 o (ctX4_pageOf hG _ (cap := cap) (jwl 1 rfl c1) (c2.mono (fun _ hc => jwl 1 rfl hc)) (c3.mono (fun _ hc => jwl 1 rfl hc)) (hER.mono (fun _ => jmr)) (by rw [hER.1]; exact k2) (by omega) (by rw [hER.1]; omega) (by omega) hks) dX2_drop_8 q507 wdX4_pageOf mdX4_pageOf (jwm 1 rfl c1) (by rfl) (by rfl) rfl (Nat.le_of_ble_eq_true rfl) (Nat.le_of_ble_eq_true rfl) (by omega) (Nat.le_of_ble_eq_true rfl) (q := 11) rfl (fun v wd hpost => ?_)
  obtain ⟨hx, rfl⟩ := hpost
  dsimp only [List.cons_append, List.nil_append, Option.toList]
  have hx : ∃ p, ps[i / cap]? = some p ∧ v = some (.ref p) := (by
    rcases hx with ⟨i2, p, h1, h2, h3⟩ | ⟨h1, h2⟩
    · rw [h1.uniq hF] at h2
      exact ⟨p, h2, h3⟩
    · exact absurd (List.mem_of_getElem? hF.1) h1)
  obtain ⟨p, hp9, rfl⟩ := hx
  have hpsl := c3.1
  obtain ⟨pL, hpL⟩ := get_ex (xs := ps) (i := ps.length - 1) (by omega)
  obtain ⟨nL, rlL, hnL, hcL, hAL⟩ := c3.2 _ pL hpL
  obtain ⟨wcA, n0, rl0, wlA, RA, hpA, hn0, hCA, hAA, hclA⟩ := isBkP_page hP1 hp9
  have hzA : ∀ c, c ∈ jflat [[(qb, bkO chn b.2.2)], wcA, [(p, pgO n0 rl0)], wlA, RA] → c ∈ wb := fun c hc => hpA.mem_iff.mpr hc
  have hc0 : (p, pgO n0 rl0) ∈ wb := hzA _ (by simp [jflat])
  have hA0 : ALR g wb rl0 (pgE cap es (i / cap)) := hAA.r (fun c hc => hzA c (by simp [jflat, hc]))
  have hdm := Nat.div_add_mod i cap
  have hdl := Nat.mod_lt i (show cap > 0 by omega)
  have hdc : cap * (i / cap) = i / cap * cap := Nat.mul_comm _ _
  have hLg : (pgE cap es (ps.length - 1))[(pgE cap es (ps.length - 1)).length - 1]? = some eL := (by
    rw [pgE_len, hpsl, pgE_get (by omega), show (b.2.1.length - 1) * cap + (min cap (es.length - (b.2.1.length - 1) * cap) - 1) = es.length - 1 by omega]
    exact heL)
  refine j_ast3 o dX2_drop_11 rfl rfl (hN 3 (Nat.le_of_ble_eq_true rfl)) (q := 12) rfl ?_
  refine j_ald_n o dX2_drop_12 rfl rfl (q := 13) rfl ?_
  refine j_callV0 o (ctX4_last hG _ (jwl 1 rfl c1) (c2.mono (fun _ hc => jwl 1 rfl hc)) hpL (jwl 1 rfl hcL)) dX2_drop_13 q518 wdX4_last mdX4_last (jwm 1 rfl c1) (by rfl) (by rfl) rfl (Nat.le_of_ble_eq_true rfl) (Nat.le_of_ble_eq_true rfl) (by omega) (Nat.le_of_ble_eq_true rfl) (q := 16) rfl (fun v wd hpost => ?_)
  obtain ⟨rfl, rfl⟩ := hpost
  dsimp only [List.cons_append, List.nil_append, Option.toList]
  refine j_ast4 o dX2_drop_16 rfl rfl (hN 4 (Nat.le_of_ble_eq_true rfl)) (q := 18) rfl ?_
  refine j_ald_n o dX2_drop_18 rfl rfl (q := 19) rfl ?_
  refine j_gf o dX2_drop_19 (jwm 1 rfl hc0) kcX5 1 (Nat.le_of_ble_eq_true rfl) q212 rfl (q := 22) rfl ?_
  refine j_ald_n o dX2_drop_22 rfl rfl (q := 23) rfl ?_
  refine j_ild_n o dX2_drop_23 rfl (q := 24) rfl ?_
  refine j_callSN0 o (ctX1_placeIn hG _ (jwl 1 rfl hc0) (hA0.mono (fun _ hc => jwl 1 rfl hc)) ((hER.pg cap (i / cap)).mono (fun _ => jmr)) (by omega) (fun r hr => hks r (List.mem_of_mem_drop (List.mem_of_mem_take hr)))) dX2_drop_24 q522 wdX1_placeIn mdX1_placeIn rfl (Nat.le_of_ble_eq_true rfl) (Nat.le_of_ble_eq_true rfl) (by omega) (Nat.le_of_ble_eq_true rfl) (q := 27) rfl (fun v wd hpost => ?_)
  obtain ⟨x, rfl, hxi, rfl⟩ := hpost
  dsimp only [List.cons_append, List.nil_append, Option.toList]
  have hxi : x = nI (i % cap) := (by
    rw [map_pg] at hxi
    rcases hxi with ⟨kk, hk1, hk2, hk3, rfl⟩ | ⟨hk1, rfl⟩
    · rw [pgE_len, List.length_map] at hk1
      have hkc : kk < cap := by omega
      rw [pgE_get hkc] at hk2
      have hF2 : jFst (b.1.map (·.1)) k (i / cap * cap + kk) := ⟨hk2, fun j hj => by
        rcases Nat.lt_or_ge j (i / cap * cap) with h9 | h9
        · exact hF.2 j (by omega)
        · have h8 := hk3 (j - i / cap * cap) (by omega)
          rw [pgE_get (by omega), show i / cap * cap + (j - i / cap * cap) = j by omega] at h8
          exact h8⟩
      have := hF2.uniq hF
      congr 1
      omega
    · refine absurd (List.mem_of_getElem? (i := i % cap) (a := k) ?_) hk1
      rw [pgE_get hdl, show i / cap * cap + i % cap = i by omega]
      exact hF.1)
  subst hxi
  refine j_ald o dX2_drop_27 rfl rfl (q := 29) rfl ?_
  refine j_callV0 o (ctX5_last hG _ (jwl 1 rfl hcL) (hAL.mono (fun _ hc => jwl 1 rfl hc)) hLg (jmr heLr)) dX2_drop_29 q523 wdX5_last mdX5_last (jwm 1 rfl hcL) (by rfl) (by rfl) rfl (Nat.le_of_ble_eq_true rfl) (Nat.le_of_ble_eq_true rfl) (by omega) (Nat.le_of_ble_eq_true rfl) (q := 32) rfl (fun v wd hpost => ?_)
  obtain ⟨rfl, rfl⟩ := hpost
  dsimp only [List.cons_append, List.nil_append, Option.toList]
  refine j_mv1 ?_
  refine j_spP _ (hpA) ?_
  dsimp only [List.cons_append, List.nil_append]
  refine j_mv3 ?_
  obtain ⟨m3, b3, hA3⟩ := id hAA
  obtain ⟨t3, rfl, -⟩ := hA3.head
  refine j_callV1 o (ctJ2_set hG _ hAA (y := e9) (by rw [pgE_get hdl, show i / cap * cap + i % cap = i by omega]; exact he9) (Or.inl ⟨_, jmr heLr, trivial⟩)) dX2_drop_32 q530 wdJ2_set mdJ2_set (jw 0 0 rfl rfl) (by rfl) (by rfl) rfl (Nat.le_of_ble_eq_true rfl) (Nat.le_of_ble_eq_true rfl) (by omega) (Nat.le_of_ble_eq_true rfl) (q := 35) rfl (fun v wd hpost => ?_)
  obtain ⟨rfl, wl2, rfl, hA4⟩ := hpost
  dsimp only [List.cons_append, List.nil_append, Option.toList]
  have hei : es.set i eL = es.set (i / cap * cap + i % cap) eL := by rw [show i / cap * cap + i % cap = i by omega]
  refine j_mv4 ?_
  refine j_mv1 ?_
  refine j_mgN [_, _, _, _, _] (fun wb2 hwb2 => ?_)
  first | dsimp only [List.cons_append, List.nil_append] | skip
  have hP2 : isBkP g cap qb chn ps (es.set i eL) b.2.1 b.2.2 wb2 := hclA (es.set i eL) b.2.2 wl2 wb2 (by rw [hei, pgE_set hdl]; exact hA4) (fun j _ hj => by rw [hei, pgE_set0 hdl hj]) (by letI : DecidableEq (Nat × va_E) := fun _ _ => Classical.propDecidable _; exact List.perm_iff_count.mpr (fun a_ => by have e0_ := List.Perm.count_eq (hwb2) a_; simp only [List.flatten_cons, List.flatten_nil, jflat, List.cons_append, List.nil_append, List.count_append, List.count_cons, List.append_nil, List.count_nil, List.flatten_append, bkO, pgO, stO, eO, tkO, eA] at e0_ ⊢; omega))
  obtain ⟨wcB, nB, rlB, wlB, RB, hpB, hnB, hCB, hAB, hclB⟩ := isBkP_page hP2 hpL
  have hzB : ∀ c, c ∈ jflat [[(qb, bkO chn b.2.2)], wcB, [(pL, pgO nB rlB)], wlB, RB] → c ∈ wb2 := fun c hc => hpB.mem_iff.mpr hc
  have hcB : (pL, pgO nB rlB) ∈ wb2 := hzB _ (by simp [jflat])
  have hlB : (pgE cap (es.set i eL) (ps.length - 1)).length = es.length - (b.2.1.length - 1) * cap := (by rw [pgE_len, List.length_set, hpsl]; omega)
  obtain ⟨ys, y, hys⟩ := snoc_ex (xs := pgE cap (es.set i eL) (ps.length - 1)) (by omega)
  have hysl : ys.length + 1 = es.length - (b.2.1.length - 1) * cap := (by rw [← hlB, hys]; simp)
  rw [hys] at hAB
  have hABr : ALR g wb2 rlB (ys ++ [y]) := hAB.r (fun c hc => hzB c (by simp [jflat, hc]))
  obtain ⟨m8, b8, hz8, -⟩ := id hABr
  have hl8 : (ys ++ [y]).length = ys.length + 1 := by simp
  refine j_pop o dX2_drop_35 rfl (q := 36) rfl ?_
  refine j_ald o dX2_drop_36 rfl rfl (q := 38) rfl ?_
  refine j_gf o dX2_drop_38 (jwm 0 rfl hcB) kcX5 1 (Nat.le_of_ble_eq_true rfl) q212 rfl (q := 41) rfl ?_
  refine j_ald o dX2_drop_41 rfl rfl (q := 43) rfl ?_
  refine j_gf o dX2_drop_43 (jwm 0 rfl hcB) kcX5 1 (Nat.le_of_ble_eq_true rfl) q212 rfl (q := 46) rfl ?_
  refine j_callV0 o (ctJ2_size hG _ (jwl 0 rfl hz8)) dX2_drop_46 q417 wdJ2_size mdJ2_size (jwm 0 rfl hz8) (by rfl) (by rfl) rfl (Nat.le_of_ble_eq_true rfl) (Nat.le_of_ble_eq_true rfl) (by omega) (Nat.le_of_ble_eq_true rfl) (q := 49) rfl (fun v wd hpost => ?_)
  obtain ⟨rfl, rfl⟩ := hpost
  dsimp only [List.cons_append, List.nil_append, Option.toList]
  rw [hl8]
  refine j_iconst o (nI 1) dX2_drop_49 (by decide) (q := 50) rfl ?_
  refine j_isub o dX2_drop_50 (q := 51) rfl ?_
  refine j_topi o (nI ys.length) (pk_sub (by omega)) ?_
  refine j_spP _ (hpB) ?_
  dsimp only [List.cons_append, List.nil_append]
  refine j_mv3 ?_
  obtain ⟨m4, b4, hA5⟩ := id hAB
  obtain ⟨t4, rfl, -⟩ := hA5.head
  refine j_callV1 o (ctJ2_remove hG _ rfl hAB) dX2_drop_51 q534 wdJ2_remove mdJ2_remove (jw 0 0 rfl rfl) (by rfl) (by rfl) rfl (Nat.le_of_ble_eq_true rfl) (Nat.le_of_ble_eq_true rfl) (by omega) (Nat.le_of_ble_eq_true rfl) (q := 54) rfl (fun v wd hpost => ?_)
  obtain ⟨rfl, wl3, rfl, hA6⟩ := hpost
  dsimp only [List.cons_append, List.nil_append, Option.toList]
  refine j_mv3 ?_
  refine j_mv3 ?_
  refine j_mv3 ?_
  refine j_mgN [_, _, _, _, _] (fun wb3 hwb3 => ?_)
  first | dsimp only [List.cons_append, List.nil_append] | skip
  have hBS : ∀ x, (drB cap b k).2.1 = b.2.1 → (x ∈ usd B ↔ x ∈ usd (B.set (bOf ch sd B k) (drB cap b k))) := fun x hx => by
    rw [mem_usd_app (X := []) hi (by rw [List.append_nil, hb9]; exact hx)]
    simp
  have hBl : (B.set (bOf ch sd B k) (drB cap b k)).length = B.length := by simp
  have loop : ∀ (d : Nat) (B2 : List Bkt) (mg2 : Nat) (ess2 : List (List Nat)) (w2 : va_W) (u9 : Nat), B2.length ≤ 2 + d → Inv cap ch sd B2 → rws B2 = rws B - 1 → isSt g hs q (cap, lo, up, sp, mg2) (lvl B2.length) (ptr B2.length) (rws B - 1) B2 ess2 w2 → (∀ S, entB S ess B → entB S ess2 B2) → mrgN cap ch sd lo d (B2, mg2) = mrgN cap ch sd lo 64 (B.set (bOf ch sd B k) (drB cap b k), mg) → u9 + uMrgN cap ch sd lo d B2 ≤ U9 → J g Y [w2] u9 110 [some (.ref q), some (.int (nI k)), some (.ref qb), some (.ref p), some (.ref pL)] [] := by
    intro d
    induction d with
    | zero =>
      intro B2 mg2 ess2 w2 u9 d1 d2 d3 d4 d5 d6 d7
      have d2f := d2.1
      have g3 := d2f.2.2.1
      have hR2 : stR g w2 hs q (cap, lo, up, sp, mg2) (lvl B2.length) (ptr B2.length) (rws B - 1) B2 ess2 := d4.r (fun _ h => h)
      obtain ⟨bl2, tk2, qs2, e1, e2, e3, e4, e5, e6⟩ := hR2
      obtain ⟨m11, b11, hz11, -⟩ := id e3
      have hlod : 100 * (rws B - 1) / (qs2.length * cap) = lod cap B2 := by rw [e4, ← d3]; rfl
      have hll : lod cap B2 ≤ 100 * rws B2 := Nat.div_le_self _ _
      have d6 : (B2, mg2) = mrgN cap ch sd lo 64 (B.set (bOf ch sd B k) (drB cap b k), mg) := d6
      rw [← d6] at r
      dsimp only at r
      refine j_ald_n o dX2_drop_110 rfl rfl (q := 111) rfl ?_
      refine j_callV0 o (ctX2_load hG _ (F := (cap, lo, up, sp, mg2)) (jwl 0 rfl e1) (e3.mono (fun _ hc => jwl 0 rfl hc)) (by omega) (show 0 < cap by omega) (show cap < 8 by omega) (by omega)) dX2_drop_111 q551 wdX2_load mdX2_load (jwm 0 rfl e1) (by rfl) (by rfl) rfl (Nat.le_of_ble_eq_true rfl) (Nat.le_of_ble_eq_true rfl) (by omega) (Nat.le_of_ble_eq_true rfl) (q := 114) rfl (fun v wd hpost => ?_)
      obtain ⟨rfl, rfl⟩ := hpost
      dsimp only [List.cons_append, List.nil_append, Option.toList]
      rw [hlod]
      refine j_ald_n o dX2_drop_114 rfl rfl (q := 115) rfl ?_
      refine j_gf o dX2_drop_115 (jwm 0 rfl e1) kcX2 1 (Nat.le_of_ble_eq_true rfl) q291 rfl (q := 118) rfl ?_
      refine j_topi o (nI lo) (rfl) ?_
      refine j_icge o 139 dX2_drop_118 (by decide) (q := 121) rfl (fun c => ?_) (fun c => ?_)
      · exact j_vret o r dX2_drop_139 [_] _ rfl (⟨rfl, ess2, w2, rfl, (show isSt g hs q (cap, lo, up, sp, mg2) (lvl B2.length) (ptr B2.length) (rws B2) B2 ess2 w2 by rw [d3]; exact d4), d5⟩) (by omega)
      · refine j_ald_n o dX2_drop_121 rfl rfl (q := 122) rfl ?_
        refine j_gf o dX2_drop_122 (jwm 0 rfl e1) kcX2 9 (Nat.le_of_ble_eq_true rfl) q309 rfl (q := 125) rfl ?_
        refine j_callV0 o (ctJ2_size hG _ (jwl 0 rfl hz11)) dX2_drop_125 q417 wdJ2_size mdJ2_size (jwm 0 rfl hz11) (by rfl) (by rfl) rfl (Nat.le_of_ble_eq_true rfl) (Nat.le_of_ble_eq_true rfl) (by omega) (Nat.le_of_ble_eq_true rfl) (q := 128) rfl (fun v wd hpost => ?_)
        obtain ⟨rfl, rfl⟩ := hpost
        dsimp only [List.cons_append, List.nil_append, Option.toList]
        refine j_iconst o (nI 2) dX2_drop_128 (by decide) (q := 129) rfl ?_
        refine j_icleT o 139 dX2_drop_129 (by decide) (nI_le (by omega) (by omega)) ?_
        exact j_vret o r dX2_drop_139 [_] _ rfl (⟨rfl, ess2, w2, rfl, (show isSt g hs q (cap, lo, up, sp, mg2) (lvl B2.length) (ptr B2.length) (rws B2) B2 ess2 w2 by rw [d3]; exact d4), d5⟩) (by omega)
    | succ d ih =>
      intro B2 mg2 ess2 w2 u9 d1 d2 d3 d4 d5 d6 d7
      have d2f := d2.1
      have g3 := d2f.2.2.1
      have g4 := d2f.2.2.2.1
      have hR2 : stR g w2 hs q (cap, lo, up, sp, mg2) (lvl B2.length) (ptr B2.length) (rws B - 1) B2 ess2 := d4.r (fun _ h => h)
      obtain ⟨bl2, tk2, qs2, e1, e2, e3, e4, e5, e6⟩ := hR2
      obtain ⟨m11, b11, hz11, -⟩ := id e3
      have hlod : 100 * (rws B - 1) / (qs2.length * cap) = lod cap B2 := by rw [e4, ← d3]; rfl
      have hll : lod cap B2 ≤ 100 * rws B2 := Nat.div_le_self _ _
      have hdef : mrgN cap ch sd lo (d + 1) (B2, mg2) = if lod cap B2 < lo ∧ 2 < B2.length then mrgN cap ch sd lo d (mrgB cap ch sd B2, mg2 + 1) else (B2, mg2) := rfl
      have hudef : uMrgN cap ch sd lo (d + 1) B2 = if lod cap B2 < lo ∧ 2 < B2.length then uMrg cap ch sd B2.dropLast (bAt B2 (B2.length - 1)) + uMrgN cap ch sd lo d (mrgB cap ch sd B2) else 0 := rfl
      refine j_ald_n o dX2_drop_110 rfl rfl (q := 111) rfl ?_
      refine j_callV0 o (ctX2_load hG _ (F := (cap, lo, up, sp, mg2)) (jwl 0 rfl e1) (e3.mono (fun _ hc => jwl 0 rfl hc)) (by omega) (show 0 < cap by omega) (show cap < 8 by omega) (by omega)) dX2_drop_111 q551 wdX2_load mdX2_load (jwm 0 rfl e1) (by rfl) (by rfl) rfl (Nat.le_of_ble_eq_true rfl) (Nat.le_of_ble_eq_true rfl) (by omega) (Nat.le_of_ble_eq_true rfl) (q := 114) rfl (fun v wd hpost => ?_)
      obtain ⟨rfl, rfl⟩ := hpost
      dsimp only [List.cons_append, List.nil_append, Option.toList]
      rw [hlod]
      refine j_ald_n o dX2_drop_114 rfl rfl (q := 115) rfl ?_
      refine j_gf o dX2_drop_115 (jwm 0 rfl e1) kcX2 1 (Nat.le_of_ble_eq_true rfl) q291 rfl (q := 118) rfl ?_
      refine j_topi o (nI lo) (rfl) ?_
      refine j_icge o 139 dX2_drop_118 (by decide) (q := 121) rfl (fun c => ?_) (fun c => ?_)
      · rw [nI_leI (by omega) (by omega)] at c
        rw [if_neg (by omega)] at hdef
        rw [hdef] at d6
        rw [← d6] at r
        dsimp only at r
        exact j_vret o r dX2_drop_139 [_] _ rfl (⟨rfl, ess2, w2, rfl, (show isSt g hs q (cap, lo, up, sp, mg2) (lvl B2.length) (ptr B2.length) (rws B2) B2 ess2 w2 by rw [d3]; exact d4), d5⟩) (by omega)
      · rw [nI_leI (by omega) (by omega)] at c
        refine j_ald_n o dX2_drop_121 rfl rfl (q := 122) rfl ?_
        refine j_gf o dX2_drop_122 (jwm 0 rfl e1) kcX2 9 (Nat.le_of_ble_eq_true rfl) q309 rfl (q := 125) rfl ?_
        refine j_callV0 o (ctJ2_size hG _ (jwl 0 rfl hz11)) dX2_drop_125 q417 wdJ2_size mdJ2_size (jwm 0 rfl hz11) (by rfl) (by rfl) rfl (Nat.le_of_ble_eq_true rfl) (Nat.le_of_ble_eq_true rfl) (by omega) (Nat.le_of_ble_eq_true rfl) (q := 128) rfl (fun v wd hpost => ?_)
        obtain ⟨rfl, rfl⟩ := hpost
        dsimp only [List.cons_append, List.nil_append, Option.toList]
        refine j_iconst o (nI 2) dX2_drop_128 (by decide) (q := 129) rfl ?_
        refine j_icle o 139 dX2_drop_129 (by decide) (q := 132) rfl (fun c2 => ?_) (fun c2 => ?_)
        · rw [nI_leI (by omega) (by omega)] at c2
          rw [if_neg (by omega)] at hdef
          rw [hdef] at d6
          rw [← d6] at r
          dsimp only at r
          exact j_vret o r dX2_drop_139 [_] _ rfl (⟨rfl, ess2, w2, rfl, (show isSt g hs q (cap, lo, up, sp, mg2) (lvl B2.length) (ptr B2.length) (rws B2) B2 ess2 w2 by rw [d3]; exact d4), d5⟩) (by omega)
        · rw [nI_leI (by omega) (by omega)] at c2
          have hc9 : lod cap B2 < lo ∧ 2 < B2.length := ⟨by omega, by omega⟩
          rw [if_pos hc9] at hdef hudef
          rw [hdef] at d6
          rw [hudef] at d7
          obtain ⟨B0, bb, rfl⟩ := snoc_ex (xs := B2) (by omega)
          have hBl0 : (B0 ++ [bb]).length = B0.length + 1 := by simp
          have h20 : 2 ≤ B0.length := by omega
          have hbb : bAt (B0 ++ [bb]) B0.length = bb := bAt_get (by simp)
          rw [List.dropLast_concat, hBl0, Nat.add_sub_cancel, hbb] at d7
          obtain ⟨i1, i2, i3⟩ := d2.mrg h20
          have hkb := d2.rk (i := B0.length) (by omega)
          rw [hbb] at hkb
          have hkp := d2.rk (i := ptr B0.length) (by have := ptr_in h20; omega)
          have hbp : bAt (B0 ++ [bb]) (ptr B0.length) = bAt B0 (ptr B0.length) := bAt_get (by rw [List.getElem?_append_left (ptr_in h20)]; exact bAt_ex (ptr_in h20))
          rw [hbp] at hkp
          rw [hBl0] at d4
          refine j_ald_n o dX2_drop_132 rfl rfl (q := 133) rfl ?_
          refine j_callV1 o (ctX2_merge hG _ d4 ((d5 bg hE).mono (fun _ => jmr)) (jmr hh) d2f h20 hc hs9 hkb hkp) dX2_drop_133 q555 wdX2_merge mdX2_merge (jwm 0 rfl e1) (by rfl) (by rfl) rfl (Nat.le_of_ble_eq_true rfl) (Nat.le_of_ble_eq_true rfl) (by omega) (Nat.le_of_ble_eq_true rfl) (q := 136) rfl (fun v wd hpost => ?_)
          obtain ⟨rfl, ess4, w4, rfl, hS4, hE4⟩ := hpost
          dsimp only [List.cons_append, List.nil_append, Option.toList]
          refine j_goto o 110 dX2_drop_136 (by decide) ?_
          exact ih (mrgB cap ch sd (B0 ++ [bb])) (mg2 + 1) ess4 w4 _ (by omega) i1 (by omega) (by rw [i2]; exact hS4) (fun S s1 => hE4 S (d5 S s1)) d6 (by omega)
  have fin : ∀ wbX, isBk g cap qb (drR es i eL) (trm cap (b.1.length - 1) b.2.1) b.2.2 wbX → J g Y [[(tk, tkO g (usd (B.set (bOf ch sd B k) (drB cap b k))))], wbX, [(q, stO (cap, lo, up, sp, mg) (lvl B.length) (ptr B.length) (rws B) hs bl tk)], wbl, R] 0 100 [some (.ref q), some (.int (nI k)), some (.ref qb), some (.ref p), some (.ref pL)] [] := by
    intro wbX hBX
    obtain ⟨wsb2, hp3, hBk2⟩ := hcl (drR es i eL) (drB cap b k) wbX (by rw [hdrE]; exact hBX)
    refine j_ald_n o dX2_drop_100 rfl rfl (q := 101) rfl ?_
    refine j_dup o dX2_drop_101 rfl (q := 102) rfl ?_
    refine j_gf o dX2_drop_102 (jw 2 0 rfl rfl) kcX2 5 (Nat.le_of_ble_eq_true rfl) q301 rfl (q := 105) rfl ?_
    refine j_iconst o (nI 1) dX2_drop_105 (by decide) (q := 106) rfl ?_
    refine j_isub o dX2_drop_106 (q := 107) rfl ?_
    refine j_topi o (nI (rws B - 1)) (pk_sub (by omega)) ?_
    refine j_pf o dX2_drop_107 2 0 rfl rfl kcX2 5 (Nat.le_of_ble_eq_true rfl) q301 rfl rfl rfl (Nat.le_of_ble_eq_true rfl) (q := 110) rfl ?_
    dsimp only [List.set]
    refine j_mgN [_, _, _, _, _] (fun w3 hw3 => ?_)
    first | dsimp only [List.cons_append, List.nil_append] | skip
    exact loop 64 (B.set (bOf ch sd B k) (drB cap b k)) mg (ess.set (bOf ch sd B k) (drR es i eL)) w3 0 (by omega) hdrI.1 (by omega) (by rw [hBl]; exact ⟨bl, tk, qs, wbl, wsb2, (by letI : DecidableEq (Nat × va_E) := fun _ _ => Classical.propDecidable _; exact List.perm_iff_count.mpr (fun a_ => by have e0_ := List.Perm.count_eq (hw3) a_; have e1_ := List.Perm.count_eq (hp3) a_; simp only [List.flatten_cons, List.flatten_nil, jflat, List.cons_append, List.nil_append, List.count_append, List.count_cons, List.append_nil, List.count_nil, List.flatten_append, bkO, pgO, stO, eO, tkO, eA] at e0_ e1_ ⊢; omega)), hA, hBk2⟩) (fun S s1 => entB_set s1 (by rw [hdrE]; exact entR_dr (hb9 ▸ s1.2 _ es _ hes (bAt_ex hi)) heL hx9)) rfl (by omega)
  have hes3 : drR es i eL = (es.set i eL).dropLast := rfl
  have hP3 : isBkP g cap qb chn ps (drR es i eL) b.2.1 b.2.2 wb3 := hclB (drR es i eL) b.2.2 wl3 wb3 (by rw [hes3, hpsl, pgE_dl (by rw [List.length_set]; omega) (by rw [List.length_set]; omega), ← hpsl, hys, List.dropLast_concat]; exact hA6) (fun j hj hj2 => by rw [hes3, pgE_dl0 (by rw [List.length_set]; have := pg_last (m := b.2.1.length) (cap := cap) (n := (b.2.1.length - 1) * cap) (Nat.le_refl _) hj (by omega); omega)]) (by letI : DecidableEq (Nat × va_E) := fun _ _ => Classical.propDecidable _; exact List.perm_iff_count.mpr (fun a_ => by have e0_ := List.Perm.count_eq (hwb3) a_; simp only [List.flatten_cons, List.flatten_nil, jflat, List.cons_append, List.nil_append, List.count_append, List.count_cons, List.append_nil, List.count_nil, List.flatten_append, bkO, pgO, stO, eO, tkO, eA] at e0_ ⊢; omega))
  have hcL3 : (pL, pgO nB rlB) ∈ wb3 := hwb3.mem_iff.mpr (by simp [jflat])
  have hA63 : ALR g wb3 rlB ys := hA6.r (fun c hc => hwb3.mem_iff.mpr (by simp [jflat, hc]))
  obtain ⟨m9, b9, hz9, -⟩ := id hA63
  obtain ⟨z1, z2, z3⟩ := hP3.r (S := wb3) (fun _ h => h)
  obtain ⟨m10, b10, hz10, -⟩ := id z2
  refine j_pop o dX2_drop_54 rfl (q := 55) rfl ?_
  refine j_ald o dX2_drop_55 rfl rfl (q := 57) rfl ?_
  refine j_gf o dX2_drop_57 (jwm 0 rfl hcL3) kcX5 1 (Nat.le_of_ble_eq_true rfl) q212 rfl (q := 60) rfl ?_
  refine j_callV0 o (ctJ2_isEmpty hG _ (by omega) (jwl 0 rfl hz9)) dX2_drop_60 q543 wdJ2_isEmpty mdJ2_isEmpty (jwm 0 rfl hz9) (by rfl) (by rfl) rfl (Nat.le_of_ble_eq_true rfl) (Nat.le_of_ble_eq_true rfl) (by omega) (Nat.le_of_ble_eq_true rfl) (q := 63) rfl (fun v wd hpost => ?_)
  obtain ⟨rfl, rfl⟩ := hpost
  dsimp only [List.cons_append, List.nil_append, Option.toList]
  refine j_ifeq o 100 dX2_drop_63 (by decide) (q := 66) rfl (fun c => ?_) (fun c => ?_)
  · have c : ¬ ys.length = 0 := fun e => by rw [if_pos e] at c; exact absurd c (by decide)
    have ht : trm cap (b.1.length - 1) b.2.1 = b.2.1 := (by
      rcases trm_cases cap (b.1.length - 1) b.2.1 with h | h
      · exact h.1
      · omega)
    refine j_mv1 ?_
    rw [tkO_congr (fun x => hBS x (by rw [hdrE]; exact ht))]
    exact fin wb3 (by rw [ht]; exact hP3.k)
  · have c : ys.length = 0 := (by
      apply Classical.byContradiction
      intro h
      rw [if_neg h] at c
      exact c rfl)
    refine j_ald_n o dX2_drop_66 rfl rfl (q := 67) rfl ?_
    refine j_gf o dX2_drop_67 (jwm 0 rfl z1) kcX4 0 (Nat.le_of_ble_eq_true rfl) q183 rfl (q := 70) rfl ?_
    refine j_callV0 o (ctJ2_size hG _ (jwl 0 rfl hz10)) dX2_drop_70 q417 wdJ2_size mdJ2_size (jwm 0 rfl hz10) (by rfl) (by rfl) rfl (Nat.le_of_ble_eq_true rfl) (Nat.le_of_ble_eq_true rfl) (by omega) (Nat.le_of_ble_eq_true rfl) (q := 73) rfl (fun v wd hpost => ?_)
    obtain ⟨rfl, rfl⟩ := hpost
    dsimp only [List.cons_append, List.nil_append, Option.toList]
    refine j_iconst o (nI 1) dX2_drop_73 (by decide) (q := 74) rfl ?_
    refine j_icle o 100 dX2_drop_74 (by decide) (q := 77) rfl (fun c2 => ?_) (fun c2 => ?_)
    · have c2 : ps.length ≤ 1 := (by rw [show (nI 1 : Int32) = nI 1 from rfl, nI_leI (by omega) (by omega)] at c2; exact c2)
      have ht : trm cap (b.1.length - 1) b.2.1 = b.2.1 := (by
        rcases trm_cases cap (b.1.length - 1) b.2.1 with h | h
        · exact h.1
        · omega)
      refine j_mv1 ?_
      rw [tkO_congr (fun x => hBS x (by rw [hdrE]; exact ht))]
      exact fin wb3 (by rw [ht]; exact hP3.k)
    · have c2 : ¬ ps.length ≤ 1 := (by rw [nI_leI (by omega) (by omega)] at c2; exact c2)
      have ht : trm cap (b.1.length - 1) b.2.1 = b.2.1.dropLast := (by
        rcases trm_cases cap (b.1.length - 1) b.2.1 with h | h
        · exact absurd ⟨by omega, by omega⟩ h.2
        · exact h.2)
      obtain ⟨pg0, n9, hpg⟩ := snoc_ex (xs := b.2.1) (by omega)
      obtain ⟨ps0, p9, hps0⟩ := snoc_ex (xs := ps) (by omega)
      have hl0 : b.2.1.length = pg0.length + 1 := by rw [hpg]; simp
      have hl1 : ps.length = ps0.length + 1 := by rw [hps0]; simp
      have hn9 : nB = n9 := (by
        rw [hpsl, hl0, hpg] at hnB
        simpa using hnB.symm)
      have hp9 : pL = p9 := (by
        rw [hl1, hps0] at hpL
        simpa using hpL.symm)
      subst hn9
      subst hp9
      have hnb : nB < 96 := k5 nB (by rw [hpg]; simp)
      have ht : trm cap (b.1.length - 1) b.2.1 = pg0 := (by rw [ht, hpg, List.dropLast_concat])
      refine j_ald_n o dX2_drop_77 rfl rfl (q := 78) rfl ?_
      refine j_ald o dX2_drop_78 rfl rfl (q := 80) rfl ?_
      refine j_mv1 ?_
      refine j_callV1 o (ctX2_free hG _ (F := (cap, lo, up, sp, mg)) (us2 := usd (B.set (bOf ch sd B k) (drB cap b k))) (jwl 1 rfl List.mem_cons_self) (jwl 0 rfl hcL3) hnb (fun x => usd_trm hnd hi (by rw [hb9, hdrE, ht, hpg]))) dX2_drop_80 q547 wdX2_free mdX2_free (jw 2 0 rfl rfl) (by rfl) (by rfl) rfl (Nat.le_of_ble_eq_true rfl) (Nat.le_of_ble_eq_true rfl) (by omega) (Nat.le_of_ble_eq_true rfl) (q := 83) rfl (fun v wd hpost => ?_)
      obtain ⟨rfl, rfl⟩ := hpost
      dsimp only [List.cons_append, List.nil_append, Option.toList]
      rw [hps0, hpg] at hP3
      obtain ⟨wcC, wpC, RC, hpC, hCC, hPC, hclC⟩ := isBkP_pop hP3
      have hl9 : (ps0 ++ [pL]).length = ps0.length + 1 := by simp
      refine j_ald_n o dX2_drop_83 rfl rfl (q := 84) rfl ?_
      refine j_gf o dX2_drop_84 (jwm 1 rfl z1) kcX4 0 (Nat.le_of_ble_eq_true rfl) q183 rfl (q := 87) rfl ?_
      refine j_ald_n o dX2_drop_87 rfl rfl (q := 88) rfl ?_
      refine j_gf o dX2_drop_88 (jwm 1 rfl z1) kcX4 0 (Nat.le_of_ble_eq_true rfl) q183 rfl (q := 91) rfl ?_
      refine j_callV0 o (ctJ2_size hG _ (jwl 1 rfl hz10)) dX2_drop_91 q417 wdJ2_size mdJ2_size (jwm 1 rfl hz10) (by rfl) (by rfl) rfl (Nat.le_of_ble_eq_true rfl) (Nat.le_of_ble_eq_true rfl) (by omega) (Nat.le_of_ble_eq_true rfl) (q := 94) rfl (fun v wd hpost => ?_)
      obtain ⟨rfl, rfl⟩ := hpost
      dsimp only [List.cons_append, List.nil_append, Option.toList]
      rw [hl1]
      refine j_iconst o (nI 1) dX2_drop_94 (by decide) (q := 95) rfl ?_
      refine j_isub o dX2_drop_95 (q := 96) rfl ?_
      refine j_topi o (nI ps0.length) (pk_sub (by omega)) ?_
      refine j_mv1 ?_
      refine j_spP _ (hpC) ?_
      dsimp only [List.cons_append, List.nil_append]
      refine j_mv1 ?_
      obtain ⟨m12, b12, hA12⟩ := id hCC
      obtain ⟨t12, rfl, -⟩ := hA12.head
      refine j_callV1 o (ctJ2_remove hG _ rfl hCC) dX2_drop_96 q534 wdJ2_remove mdJ2_remove (jw 0 0 rfl rfl) (by rfl) (by rfl) rfl (Nat.le_of_ble_eq_true rfl) (Nat.le_of_ble_eq_true rfl) (by omega) (Nat.le_of_ble_eq_true rfl) (q := 99) rfl (fun v wd hpost => ?_)
      obtain ⟨rfl, wcC2, rfl, hCC2⟩ := hpost
      dsimp only [List.cons_append, List.nil_append, Option.toList]
      refine j_pop o dX2_drop_99 rfl (q := 100) rfl ?_
      refine j_mv2 ?_
      refine j_drop ?_
      refine j_mv1 ?_
      refine j_mgN [_, _, _] (fun wb4 hwb4 => ?_)
      first | dsimp only [List.cons_append, List.nil_append] | skip
      refine j_mv1 ?_
      exact fin wb4 (by rw [ht]; exact hclC wcC2 wb4 hCC2 hwb4)

/-! THE STORE, eighth: put -/
set_option maxRecDepth 100000
def isF (g : jG) (hs q : Nat) (F : Fl) (ess : List (List Nat)) (w : va_W) : Prop := isSt g hs q (fC F, fLo F, fUp F, fSp F, fMg F) (lvl (fB F).length) (ptr (fB F).length) (rws (fB F)) (fB F) ess w
def InvF (F : Fl) : Prop := Inv (fC F) (fCh F) (fSd F) (fB F) ∧ fCh F < 1024 ∧ fSd F < 10 ∧ fLo F ≤ 40 ∧ 50 ≤ fUp F ∧ fUp F ≤ 100
theorem Inv.rk {cap ch sd i : Nat} {B : List Bkt} (h : Inv cap ch sd B) (hi : i < B.length) : ∀ r ∈ (bAt B i).1, r.1 < 2 ^ 31 := fun r hr => by
  have := ((h.2.own hi).1 r hr).1
  omega
theorem lod_lt {cap up : Nat} {B : List Bkt} (hf : fits cap B 0) (h5 : 50 ≤ up) (h : up < lod cap B) : B.length < 60 := by
  obtain ⟨h1, h2, h3, h4, h6, -⟩ := hf
  apply Classical.byContradiction
  intro hn
  have hp : 0 < B.length * cap := Nat.mul_pos (by omega) (by omega)
  have h7 : lod cap B ≤ 50 := by
    unfold lod
    apply Nat.div_le_of_le_mul
    have : 60 * 2 ≤ B.length * cap := Nat.mul_le_mul (by omega) h1
    omega
  omega
theorem splN_inv {cap ch sd up : Nat} (h5 : 50 ≤ up) : ∀ (d : Nat) (B : List Bkt) (s : Nat), Inv cap ch sd B → Inv cap ch sd (splN cap ch sd up d (B, s)).1 ∧ rws (splN cap ch sd up d (B, s)).1 = rws B := by
  intro d
  induction d with
  | zero => intro B s h; exact ⟨h, rfl⟩
  | succ d ih =>
    intro B s h
    unfold splN
    by_cases hc : up < lod cap B
    · rw [if_pos hc]
      obtain ⟨a1, a2, a3⟩ := h.spl (lod_lt h.1 h5 hc)
      obtain ⟨b1, b2⟩ := ih (splB cap ch sd B) (s + 1) a1
      exact ⟨b1, by rw [b2, a3]⟩
    · rw [if_neg hc]
      exact ⟨h, rfl⟩
def uSplN (cap ch sd up : Nat) : Nat → List Bkt → Nat
  | 0, _ => 0
  | d + 1, B => if up < lod cap B then uSpl cap ch sd B + uSplN cap ch sd up d (splB cap ch sd B) else 0
def uPut (F : Fl) (k v : Nat) : Nat :=
  match fGet (fCh F) (fSd F) (fB F) k with
  | some _ => 0
  | none => 1 + uApp (fC F) (bAt (fB F) (bOf (fCh F) (fSd F) (fB F) k)).1.length (bAt (fB F) (bOf (fCh F) (fSd F) (fB F) k)).2.1.length + uSplN (fC F) (fCh F) (fSd F) (fUp F) 64 (fApp (fC F) (fCh F) (fSd F) (fB F) (k, v))
theorem nodup_at {ks : List Nat} {i j k : Nat} (h : ks.Nodup) (h1 : ks[i]? = some k) (h2 : ks[j]? = some k) : i = j := by
  have hi := get_lt h1
  have hj := get_lt h2
  rw [List.getElem?_eq_getElem hi] at h1
  rw [List.getElem?_eq_getElem hj] at h2
  have e := (Option.some.inj h1).trans (Option.some.inj h2).symm
  have hp := List.pairwise_iff_getElem.mp h
  rcases Nat.lt_trichotomy i j with hl | hl | hl
  · exact absurd e (hp i j hi hj hl)
  · exact hl
  · exact absurd e.symm (hp j i hj hi hl)
theorem enO_inj {r s : Row} (hr : r.1 < 2 ^ 31) (hs : s.1 < 2 ^ 31) (h : enO r = enO s) : r.1 = s.1 := by
  have h1 : (11, [Value.int (nI r.1), Value.int (nI r.2)]) = (11, [Value.int (nI s.1), Value.int (nI s.2)]) := Sum.inr.inj h
  simp only [Prod.mk.injEq, List.cons.injEq, Value.int.injEq] at h1
  exact (nI_eq hr hs).mp h1.2.1
/-- a value over a value: only that record changes -/
theorem entB_ov {we we2 R : va_W} {ess : List (List Nat)} {B : List Bkt} {cap ch sd key v i e : Nat} {es : List Nat} {r : Row} (hI : Inv cap ch sd B) (hE : entB we ess B) (hes : ess[bOf ch sd B key]? = some es) (hF : jFst ((bAt B (bOf ch sd B key)).1.map (·.1)) key i) (he : es[i]? = some e) (hr : (bAt B (bOf ch sd B key)).1[i]? = some r) (hp : we.Perm ((e, enO r) :: R)) (hp2 : we2.Perm ((e, enO (key, v)) :: R)) (hn : (we.map (·.1)).Nodup) : entB we2 ess (B.set (bOf ch sd B key) (ovB (bAt B (bOf ch sd B key)) key v)) := by
  have hi : bOf ch sd B key < B.length := adr_lt (by have := hI.1.2.2.1; omega)
  obtain ⟨-, hpl, hrk⟩ := jFst_find hF hr
  have hB := bAt_ex hi
  have hnd : (((e, enO r) :: R).map (·.1)).Nodup := ((hp.map (·.1)).nodup_iff).mp hn
  have hother : ∀ (e2 : Nat) (r2 : Row), (e2, enO r2) ∈ we → r2.1 < 2 ^ 31 → r2.1 ≠ key → (e2, enO r2) ∈ we2 := by
    intro e2 r2 hm h2 hne
    rcases List.mem_cons.mp (hp.mem_iff.mp hm) with h3 | h3
    · have h4 : enO r2 = enO r := (Prod.mk.inj h3).2
      have h5 : r.1 < 2 ^ 31 := (hI.rk hi) r (List.mem_of_getElem? hr)
      exact absurd ((enO_inj h2 h5 h4).trans hrk) hne
    · exact hp2.mem_iff.mpr (List.mem_cons_of_mem _ h3)
  refine ⟨by simpa using hE.1, fun j e2s b2 h1 h2 => ?_⟩
  by_cases hj : j = bOf ch sd B key
  · subst hj
    rw [List.getElem?_set_self hi] at h2
    rw [hes] at h1
    cases h1
    cases h2
    have hER := hE.2 _ es _ hes hB
    refine ⟨by simpa [ovB] using hER.1, fun k e3 r3 h3 h4 => ?_⟩
    simp only [ovB, hpl] at h4
    by_cases hk : k = i
    · subst hk
      rw [List.getElem?_set_self (get_lt hr)] at h4
      rw [he] at h3
      cases h3
      cases h4
      exact hp2.mem_iff.mpr List.mem_cons_self
    · rw [List.getElem?_set_ne (fun e => hk e.symm)] at h4
      refine hother e3 r3 (hER.2 k e3 r3 h3 h4) ((hI.rk hi) r3 (List.mem_of_getElem? h4)) (fun e => hk ?_)
      exact nodup_at (hI.2.own hi).2.1 (by rw [List.getElem?_map, h4]; exact congrArg some e) hF.1
  · rw [List.getElem?_set_ne (fun e => hj e.symm)] at h2
    have hER := hE.2 j e2s b2 h1 h2
    refine ⟨hER.1, fun k e3 r3 h3 h4 => ?_⟩
    have hm := List.mem_of_getElem? h4
    have hjb := (hI.2 j b2 h2).1 r3 hm
    exact hother e3 r3 (hER.2 k e3 r3 h3 h4) (by omega) (fun e => hj (by have := hjb.2.2.1; rw [e] at this; exact this.symm))
theorem mem_open {w : va_W} {c : Nat × va_E} (h : c ∈ w) : ∃ R, w.Perm (jflat [[c], R]) := by
  obtain ⟨s, t, rfl⟩ := List.append_of_mem h
  exact ⟨s ++ t, List.perm_middle⟩
theorem ctX2_put {l : Launch} {g : jG} (hG : GS l g) (bg : va_W) {q hs k v : Nat} {F : Fl} {ess : List (List Nat)} {w we : va_W} (hS : isF g hs q F ess w) (hE : entB we ess (fB F)) (hh : (hs, hsO (fCh F) (fSd F)) ∈ bg) (hI9 : InvF F) (hk : k < 10000) (hv : v < 10000) (hroom : fGet (fCh F) (fSd F) (fB F) k = none → rws (fB F) < 60) : KX2_put l g 11 (uPut F k v) [.ref q, .int (nI k), .int (nI v)] bg [w, we] (fun x wd => x = some (.int (match fGet (fCh F) (fSd F) (fB F) k with | some y => nI y | none => -1)) ∧ ∃ ess2 w2 we2, wd = [w2, we2] ∧ isF g hs q (fPut F k v) ess2 w2 ∧ entB we2 ess2 (fB (fPut F k v)) ∧ (fGet (fCh F) (fSd F) (fB F) k = none → ∀ c ∈ we, c ∈ we2)) := by
  obtain ⟨⟨cap, lo, up⟩, ⟨ch, sd⟩, ⟨sp, mg⟩, B⟩ := F
  obtain ⟨hV, hc, hs9, hlo, hup, hup9⟩ := hI9
  dsimp only [fC, fLo, fUp, fCh, fSd, fSp, fMg, fB] at hS hE hh hV hc hs9 hlo hup hup9 hroom ⊢
  have hf := hV.1
  have f1 := hf.1
  have f2 := hf.2.1
  have f3 := hf.2.2.1
  have f4 := hf.2.2.2.1
  have f5 := hf.2.2.2.2.1
  have hwf := hf.2.2.2.2.2.1
  have hi : bOf ch sd B k < B.length := adr_lt (by omega)
  have hS : isSt g hs q (cap, lo, up, sp, mg) (lvl B.length) (ptr B.length) (rws B) B ess w := hS
  have hlv := lvl_lt (n := B.length) (by omega)
  have hpl := ptr_le (n := B.length)
  have hRw : stR g w hs q (cap, lo, up, sp, mg) (lvl B.length) (ptr B.length) (rws B) B ess := hS.r (fun _ h => h)
  have hRw2 := hRw
  obtain ⟨bl0, tk0, qs0, hq0, -⟩ := hRw2
  have hFdef : fPut ((cap, lo, up), (ch, sd), (sp, mg), B) k v = (match fGet ch sd B k with | some _ => ((cap, lo, up), (ch, sd), (sp, mg), B.set (bOf ch sd B k) (ovB (bAt B (bOf ch sd B k)) k v)) | none => ((cap, lo, up), (ch, sd), ((splN cap ch sd up 64 (fApp cap ch sd B (k, v), sp)).2, mg), (splN cap ch sd up 64 (fApp cap ch sd B (k, v), sp)).1)) := rfl
  have hUdef : uPut ((cap, lo, up), (ch, sd), (sp, mg), B) k v = (match fGet ch sd B k with | some _ => 0 | none => 1 + uApp cap (bAt B (bOf ch sd B k)).1.length (bAt B (bOf ch sd B k)).2.1.length + uSplN cap ch sd up 64 (fApp cap ch sd B (k, v))) := rfl
  refine Ctr.of [some (.ref q), some (.int (nI k)), some (.int (nI v)), none, none] hG (by decide +kernel) rfl (Nat.le_of_ble_eq_true rfl) (fun Y hl hN0 o r hI => ?_)
  subst hl
  have hN : ∀ i, i < 5 → i < yN Y := fun i h => by rw [hN0]; exact h
  refine j_base o (fun _ hnd => ?_)
  refine j_ald_n o dX2_put_0 rfl rfl (q := 1) rfl ?_
  refine j_ild_n o dX2_put_1 rfl (q := 2) rfl ?_
  refine j_callV0 o (ctX2_get hG _ (hRw.mono (fun _ hc => jwl 0 rfl hc)) (hE.mono (fun _ hc => jwl 1 rfl hc)) (jmr hh) hV hc hs9 (by omega)) dX2_put_2 q602 wdX2_get mdX2_get (jwm 0 rfl hq0) (by rfl) (by rfl) rfl (Nat.le_of_ble_eq_true rfl) (Nat.le_of_ble_eq_true rfl) (by omega) (Nat.le_of_ble_eq_true rfl) (q := 5) rfl (fun v wd hpost => ?_)
  obtain ⟨hx, rfl⟩ := hpost
  dsimp only [List.cons_append, List.nil_append, Option.toList]
  rcases hx with ⟨i, es, e, r9, hes, hF, he, hr9, rfl⟩ | ⟨hno, rfl⟩
  · obtain ⟨hfd, hplc, hrk⟩ := jFst_find hF hr9
    have hg : fGet ch sd B k = some r9.2 := by unfold fGet; rw [hfd]; rfl
    have hER := hE.2 _ es _ hes (bAt_ex hi)
    have hen := hER.2 i e r9 he hr9
    obtain ⟨R, hpw⟩ := mem_open hen
    rw [hg] at hFdef r hUdef
    dsimp only at hFdef r hUdef
    rw [hFdef] at r
    refine j_ast3 o dX2_put_5 rfl rfl (hN 3 (Nat.le_of_ble_eq_true rfl)) (q := 6) rfl ?_
    refine j_ald_n o dX2_put_6 rfl rfl (q := 7) rfl ?_
    refine j_ifnull o dX2_put_7 (q := 10) rfl ?_
    refine j_mv1 ?_
    refine j_spP _ (hpw) ?_
    dsimp only [List.cons_append, List.nil_append]
    refine j_ald_n o dX2_put_10 rfl rfl (q := 11) rfl ?_
    refine j_gf o dX2_put_11 (jw 0 0 rfl rfl) kcX11 1 (Nat.le_of_ble_eq_true rfl) q450 rfl (q := 14) rfl ?_
    refine j_ist4 o dX2_put_14 rfl (hN 4 (Nat.le_of_ble_eq_true rfl)) (q := 16) rfl ?_
    refine j_ald_n o dX2_put_16 rfl rfl (q := 17) rfl ?_
    refine j_ild_n o dX2_put_17 rfl (q := 18) rfl ?_
    refine j_pf o dX2_put_18 0 0 rfl rfl kcX11 1 (Nat.le_of_ble_eq_true rfl) q450 rfl rfl rfl (Nat.le_of_ble_eq_true rfl) (q := 21) rfl ?_
    dsimp only [List.set]
    refine j_mgN [_, _] (fun we2 hwe2 => ?_)
    first | dsimp only [List.cons_append, List.nil_append] | skip
    rw [hrk] at hwe2
    refine j_mv1 ?_
    have hnd2 : (we.map (·.1)).Nodup := by
      simp only [List.flatten_cons, List.flatten_nil, List.append_nil, List.map_append] at hnd
      exact (List.nodup_append.mp hnd).2.1
    have hBl : (B.set (bOf ch sd B k) (ovB (bAt B (bOf ch sd B k)) k v)).length = B.length := by simp
    have hus : ∀ x, x ∈ usd B ↔ x ∈ usd (B.set (bOf ch sd B k) (ovB (bAt B (bOf ch sd B k)) k v)) := fun x => by
      rw [mem_usd_app (X := []) hi (by rw [List.append_nil]; rfl)]
      simp
    have hrw : rws (B.set (bOf ch sd B k) (ovB (bAt B (bOf ch sd B k)) k v)) = rws B := by
      have := rws_set (b := ovB (bAt B (bOf ch sd B k)) k v) hi
      have e : (ovB (bAt B (bOf ch sd B k)) k v).1.length = (bAt B (bOf ch sd B k)).1.length := by simp [ovB]
      omega
    have hS2 : isF g hs q ((cap, lo, up), (ch, sd), (sp, mg), B.set (bOf ch sd B k) (ovB (bAt B (bOf ch sd B k)) k v)) ess w := by
      show isSt g hs q (cap, lo, up, sp, mg) (lvl (B.set (bOf ch sd B k) (ovB (bAt B (bOf ch sd B k)) k v)).length) (ptr (B.set (bOf ch sd B k) (ovB (bAt B (bOf ch sd B k)) k v)).length) (rws (B.set (bOf ch sd B k) (ovB (bAt B (bOf ch sd B k)) k v))) (B.set (bOf ch sd B k) (ovB (bAt B (bOf ch sd B k)) k v)) ess w
      rw [hBl, hrw]
      obtain ⟨bl, tk, qs, wbl, wsb, hperm, hA, hB1, hB2, hB3, hB4⟩ := hS
      refine ⟨bl, tk, qs, wbl, wsb, by rw [← tkO_congr hus]; exact hperm, hA, by rw [hBl]; exact hB1, by rw [hBl]; exact hB2, by rw [hBl]; exact hB3, fun j qj bj ej wj a1 a2 a3 a4 => ?_⟩
      by_cases hj : j = bOf ch sd B k
      · subst hj
        rw [List.getElem?_set_self hi] at a2
        cases a2
        have h9 := hB4 _ qj _ ej wj a1 (bAt_ex hi) a3 a4
        exact h9
      · rw [List.getElem?_set_ne (fun e => hj e.symm)] at a2
        exact hB4 j qj bj ej wj a1 a2 a3 a4
    refine j_ild o dX2_put_21 rfl (q := 23) rfl ?_
    exact j_ret o r dX2_put_23 rfl [_, _] _ rfl (⟨rfl, ess, w, we2, rfl, hS2, entB_ov hV hE hes hF he hr9 hpw hwe2 hnd2, fun h => by cases h⟩) (by omega)
  · have hg : fGet ch sd B k = none := by unfold fGet; rw [no_find hno]; rfl
    have hroom := hroom hg
    have hUx : uPut ((cap, lo, up), (ch, sd), (sp, mg), B) k v = 1 + uApp cap (bAt B (bOf ch sd B k)).1.length (bAt B (bOf ch sd B k)).2.1.length + uSplN cap ch sd up 64 (fApp cap ch sd B (k, v)) := by rw [hUdef, hg]
    generalize hU9 : uPut ((cap, lo, up), (ch, sd), (sp, mg), B) k v = U9 at o r hUx ⊢
    rw [hg] at hFdef r
    dsimp only at hFdef r
    rw [hFdef] at r
    have hf1 : fits cap B 1 := ⟨f1, f2, f3, f4, by omega, hwf, hf.2.2.2.2.2.2⟩
    have hus := hf.us
    have hfA := hf1.app (ch := ch) (sd := sd) (more := 0) (k, v)
    have haA := hV.2.app (cap := cap) f3 (r := (k, v)) ⟨hk, hv⟩ (hV.2.noK hno)
    have hrwA : rws (fApp cap ch sd B (k, v)) = rws B + 1 := by
      have hr := rws_set (b := apB cap ch sd (usd B) (bAt B (bOf ch sd B k)) (k, v)) hi
      have e : (apB cap ch sd (usd B) (bAt B (bOf ch sd B k)) (k, v)).1.length = (bAt B (bOf ch sd B k)).1.length + 1 := by simp [apB]
      have hr2 : rws (fApp cap ch sd B (k, v)) + (bAt B (bOf ch sd B k)).1.length = rws B + (apB cap ch sd (usd B) (bAt B (bOf ch sd B k)) (k, v)).1.length := hr
      omega
    have hrwk := rws_at hi
    obtain ⟨bl, tk, qs, wbl, wsb, hperm, hA, hBk⟩ := hS
    obtain ⟨qb, hqb⟩ := get_ex (xs := qs) (i := bOf ch sd B k) (by rw [hBk.1]; exact hi)
    obtain ⟨es, wb, R, hes, hp1, hB1, hcl⟩ := isBks_open hBk hqb
    have hER := hE.2 _ es _ hes (bAt_ex hi)
    have hperm2 : w.Perm (jflat [[(tk, tkO g (usd B))], wb, [(q, stO (cap, lo, up, sp, mg) (lvl B.length) (ptr B.length) (rws B) hs bl tk)], wbl, R]) := (by letI : DecidableEq (Nat × va_E) := fun _ _ => Classical.propDecidable _; exact List.perm_iff_count.mpr (fun a_ => by have e0_ := List.Perm.count_eq (hperm) a_; have e1_ := List.Perm.count_eq (hp1) a_; simp only [List.flatten_cons, List.flatten_nil, jflat, List.cons_append, List.nil_append, List.count_append, List.count_cons, List.append_nil, List.count_nil, List.flatten_append, bkO, pgO, stO, eO, tkO, eA] at e0_ e1_ ⊢; omega))
    refine j_ast3 o dX2_put_5 rfl rfl (hN 3 (Nat.le_of_ble_eq_true rfl)) (q := 6) rfl ?_
    refine j_ald_n o dX2_put_6 rfl rfl (q := 7) rfl ?_
    refine j_ifnullN o 24 dX2_put_7 (by decide) ?_
    refine j_ald_n o dX2_put_24 rfl rfl (q := 25) rfl ?_
    refine j_new o (fs := fdX11) 1 dX2_put_25 kcX11 q435 q441 q93 dfX11 (by omega) (by decide) (q := 28) rfl (fun e hb_e => ?_)
    refine j_dup o dX2_put_28 rfl (q := 29) rfl ?_
    refine j_ild_n o dX2_put_29 rfl (q := 30) rfl ?_
    refine j_ild_n o dX2_put_30 rfl (q := 31) rfl ?_
    refine j_callI1 o (ctX11_init hG _ e _ _) dX2_put_31 q606 wdX11_init mdX11_init rfl rfl (Nat.le_of_ble_eq_true rfl) (Nat.le_of_ble_eq_true rfl) (by omega) (Nat.le_of_ble_eq_true rfl) (q := 34) rfl (fun v wd hpost => ?_)
    obtain ⟨rfl, rfl⟩ := hpost
    dsimp only [List.cons_append, List.nil_append, Option.toList]
    refine j_mv1 ?_
    refine j_spP _ (hperm2) ?_
    dsimp only [List.cons_append, List.nil_append]
    refine j_callV2 o (ctX2_append hG _ (r9 := (k, v)) (us2 := usd (fApp cap ch sd B (k, v))) (b := bAt B (bOf ch sd B k)) (qs := qs) (jwl 0 rfl List.mem_cons_self) (jmr hh) (hA.r (fun c hc => jwl 1 rfl hc)) (jwl 3 rfl List.mem_cons_self) hlv (by omega) hc hs9 (show k < 2 ^ 31 by omega) (by rw [← adr_ad f3]; exact hqb) hB1 hER.1 (fun y hy => (hER.el y hy).mono (fun _ hc => jwl 4 rfl hc)) (hwf.at hi) ⟨f1, f2⟩ (by rw [hER.1]; omega) hus (fun k => usd_app f3 _)) dX2_put_34 q588 wdX2_append mdX2_append (jw 2 0 rfl rfl) (by rfl) (by rfl) rfl (Nat.le_of_ble_eq_true rfl) (Nat.le_of_ble_eq_true rfl) (by omega) (Nat.le_of_ble_eq_true rfl) (q := 37) rfl (fun v wd hpost => ?_)
    obtain ⟨rfl, wb2, rfl, hB2⟩ := hpost
    dsimp only [List.cons_append, List.nil_append, Option.toList]
    obtain ⟨wsb2, hp3, hBk2⟩ := hcl (es ++ [e]) (apB cap ch sd (usd B) (bAt B (bOf ch sd B k)) (k, v)) wb2 hB2
    refine j_ald_n o dX2_put_37 rfl rfl (q := 38) rfl ?_
    refine j_dup o dX2_put_38 rfl (q := 39) rfl ?_
    refine j_gf o dX2_put_39 (jw 2 0 rfl rfl) kcX2 5 (Nat.le_of_ble_eq_true rfl) q301 rfl (q := 42) rfl ?_
    refine j_iconst o (nI 1) dX2_put_42 (by decide) (q := 43) rfl ?_
    refine j_iadd o dX2_put_43 (q := 44) rfl ?_
    refine j_topi o (nI (rws B + 1)) (nI_1 _) ?_
    refine j_pf o dX2_put_44 2 0 rfl rfl kcX2 5 (Nat.le_of_ble_eq_true rfl) q301 rfl rfl rfl (Nat.le_of_ble_eq_true rfl) (q := 47) rfl ?_
    dsimp only [List.set]
    refine j_mgN [_, _, _, _, _] (fun w3 hw3 => ?_)
    first | dsimp only [List.cons_append, List.nil_append] | skip
    refine j_mv2 ?_
    refine j_mv2 ?_
    refine j_mgN [_, _] (fun we2 hwe2 => ?_)
    first | dsimp only [List.cons_append, List.nil_append] | skip
    refine j_mv1 ?_
    have hS3 : isSt g hs q (cap, lo, up, sp, mg) (lvl (fApp cap ch sd B (k, v)).length) (ptr (fApp cap ch sd B (k, v)).length) (rws B + 1) (fApp cap ch sd B (k, v)) (ess.set (bOf ch sd B k) (es ++ [e])) w3 := (by
      rw [fApp_len]
      exact ⟨bl, tk, qs, wbl, wsb2, (by letI : DecidableEq (Nat × va_E) := fun _ _ => Classical.propDecidable _; exact List.perm_iff_count.mpr (fun a_ => by have e0_ := List.Perm.count_eq (hw3) a_; have e1_ := List.Perm.count_eq (hp3) a_; simp only [List.flatten_cons, List.flatten_nil, jflat, List.cons_append, List.nil_append, List.count_append, List.count_cons, List.append_nil, List.count_nil, List.flatten_append, bkO, pgO, stO, eO, tkO, eA] at e0_ e1_ ⊢; omega)), hA, hBk2⟩)
    have hmw : ∀ c ∈ we, c ∈ we2 := fun c hc => hwe2.mem_iff.mpr (by simp [jflat, hc])
    have hE3 : entB we2 (ess.set (bOf ch sd B k) (es ++ [e])) (fApp cap ch sd B (k, v)) := entB_set (hE.mono hmw) (entR_app (hER.mono hmw) (hwe2.mem_iff.mpr (by simp [jflat])))
    have loop : ∀ (d : Nat) (B2 : List Bkt) (sp2 : Nat) (ess2 : List (List Nat)) (w2 : va_W) (u9 : Nat), 62 ≤ B2.length + d → Inv cap ch sd B2 → rws B2 = rws B + 1 → isSt g hs q (cap, lo, up, sp2, mg) (lvl B2.length) (ptr B2.length) (rws B + 1) B2 ess2 w2 → entB we2 ess2 B2 → splN cap ch sd up d (B2, sp2) = splN cap ch sd up 64 (fApp cap ch sd B (k, v), sp) → u9 + uSplN cap ch sd up d B2 ≤ U9 → J g Y [w2, we2] u9 47 [some (.ref q), some (.int (nI k)), some (.int (nI v)), some .null, none] [] := by
      intro d
      induction d with
      | zero => intro B2 sp2 ess2 w2 u9 c1 c2; have := c2.1.2.2.2.1; omega
      | succ d ih =>
        intro B2 sp2 ess2 w2 u9 c1 c2 c3 c4 c5 c6 c7
        have c2f := c2.1
        have d3 := c2f.2.2.1
        have hR2 : stR g w2 hs q (cap, lo, up, sp2, mg) (lvl B2.length) (ptr B2.length) (rws B + 1) B2 ess2 := c4.r (fun _ h => h)
        obtain ⟨bl2, tk2, qs2, e1, e2, e3, e4, e5, e6⟩ := hR2
        have hlod : 100 * (rws B + 1) / (qs2.length * cap) = lod cap B2 := by rw [e4, ← c3]; rfl
        have hll : lod cap B2 ≤ 100 * rws B2 := Nat.div_le_self _ _
        refine j_ald_n o dX2_put_47 rfl rfl (q := 48) rfl ?_
        refine j_callV0 o (ctX2_load hG _ (F := (cap, lo, up, sp2, mg)) (jwl 0 rfl e1) (e3.mono (fun _ hc => jwl 0 rfl hc)) (by omega) (show 0 < cap by omega) (show cap < 8 by omega) (by omega)) dX2_put_48 q551 wdX2_load mdX2_load (jwm 0 rfl e1) (by rfl) (by rfl) rfl (Nat.le_of_ble_eq_true rfl) (Nat.le_of_ble_eq_true rfl) (by omega) (Nat.le_of_ble_eq_true rfl) (q := 51) rfl (fun v wd hpost => ?_)
        obtain ⟨rfl, rfl⟩ := hpost
        dsimp only [List.cons_append, List.nil_append, Option.toList]
        rw [hlod]
        refine j_ald_n o dX2_put_51 rfl rfl (q := 52) rfl ?_
        refine j_gf o dX2_put_52 (jwm 0 rfl e1) kcX2 2 (Nat.le_of_ble_eq_true rfl) q294 rfl (q := 55) rfl ?_
        refine j_topi o (nI up) (rfl) ?_
        have hdef : splN cap ch sd up (d + 1) (B2, sp2) = if up < lod cap B2 then splN cap ch sd up d (splB cap ch sd B2, sp2 + 1) else (B2, sp2) := rfl
        have hudef : uSplN cap ch sd up (d + 1) B2 = if up < lod cap B2 then uSpl cap ch sd B2 + uSplN cap ch sd up d (splB cap ch sd B2) else 0 := rfl
        refine j_icle o 65 dX2_put_55 (by decide) (q := 58) rfl (fun c => ?_) (fun c => ?_)
        · rw [nI_leI (by omega) (by omega)] at c
          rw [if_neg (by omega)] at hdef hudef
          rw [hdef] at c6
          rw [← c6] at r
          dsimp only at r
          refine j_iconst o (-1) dX2_put_65 (by decide) (q := 66) rfl ?_
          exact j_ret o r dX2_put_66 rfl [_, _] _ rfl (⟨rfl, ess2, w2, we2, rfl, (show isSt g hs q (cap, lo, up, sp2, mg) (lvl B2.length) (ptr B2.length) (rws B2) B2 ess2 w2 by rw [c3]; exact c4), c5, fun _ => hmw⟩) (by omega)
        · rw [nI_leI (by omega) (by omega)] at c
          have hup2 : up < lod cap B2 := (by omega)
          rw [if_pos hup2] at hdef hudef
          rw [hdef] at c6
          rw [hudef] at c7
          have h60 := lod_lt c2f hup hup2
          obtain ⟨g1, g2, g3⟩ := c2.spl h60
          refine j_ald_n o dX2_put_58 rfl rfl (q := 59) rfl ?_
          refine j_callV1 o (ctX2_split hG _ c4 (c5.mono (fun _ hc => jwl 0 rfl hc)) (jmr hh) c2f h60 hc hs9 (c2.rk (ptr_in d3))) dX2_put_59 q607 wdX2_split mdX2_split (jwm 0 rfl e1) (by rfl) (by rfl) rfl (Nat.le_of_ble_eq_true rfl) (Nat.le_of_ble_eq_true rfl) (by omega) (Nat.le_of_ble_eq_true rfl) (q := 62) rfl (fun v wd hpost => ?_)
          obtain ⟨rfl, ess4, w4, rfl, hS4, hE4⟩ := hpost
          dsimp only [List.cons_append, List.nil_append, Option.toList]
          refine j_goto o 47 dX2_put_62 (by decide) ?_
          exact ih (splB cap ch sd B2) (sp2 + 1) ess4 w4 _ (by omega) g1 (by omega) (by rw [g2]; exact hS4) (hE4 we2 c5) c6 (by omega)
    exact loop 64 (fApp cap ch sd B (k, v)) sp _ w3 _ (by rw [fApp_len]; omega) ⟨hfA, haA⟩ hrwA hS3 hE3 rfl (by omega)

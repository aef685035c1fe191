/-! THE DESK, sixteenth: seeking, visits, what would be -/
set_option maxRecDepth 100000
def fld (hi k : Nat) : Nat := if hi = 1 then k / 100 else k % 100
def ahdB (ch sd a b : Nat) : Bool := decide (trn (hsh ch sd a) 10 < trn (hsh ch sd b) 10) || (decide (trn (hsh ch sd a) 10 = trn (hsh ch sd b) 10) && decide (a < b))
theorem ahdB_iff {ch sd a b : Nat} : ahdB ch sd a b = true ↔ ahd ch sd a b := by
  unfold ahdB ahd
  simp
def behB (ch sd : Nat) (m : Option Nat) (k : Nat) : Bool := match m with | none => true | some a => ahdB ch sd a k
theorem behB_iff {ch sd : Nat} {m : Option Nat} {k : Nat} : behB ch sd m k = true ↔ beh ch sd m k := by
  cases m with
  | none => simp [behB, beh]
  | some a => exact ahdB_iff
/-- how many records of a field lie ahead of a key; not behind a mark -/
def rnk (F : Fl) (hi v k : Nat) : Nat := (alR (fB F)).countP (fun r => decide (fld hi r.1 = v) && ahdB (fCh F) (fSd F) r.1 k)
def cnM (F : Fl) (hi v : Nat) (m : Option Nat) : Nat := (alR (fB F)).countP (fun r => decide (fld hi r.1 = v) && !behB (fCh F) (fSd F) m r.1)
def cnB (F : Fl) (m : Option Nat) : Nat := (alR (fB F)).countP (fun r => behB (fCh F) (fSd F) m r.1)
/-- the nth key in order of those of a field -/
def isSk (F : Fl) (hi v n : Nat) (o : Option Nat) : Prop := (∃ r ∈ alR (fB F), o = some r.1 ∧ fld hi r.1 = v ∧ rnk F hi v r.1 = n) ∨ (o = none ∧ ∀ r ∈ alR (fB F), fld hi r.1 = v → rnk F hi v r.1 ≠ n)
theorem cnt_one {rs : List Row} {p q : Row → Bool} {r : Row} (hn : rs.Nodup) (hr : r ∈ rs) (hp : p r = false) (hq : q r = true) (h : ∀ x ∈ rs, x ≠ r → q x = p x) : rs.countP q = rs.countP p + 1 := by
  induction rs with
  | nil => simp at hr
  | cons x rs ih =>
    obtain ⟨h1, h2⟩ := List.nodup_cons.mp hn
    rcases List.mem_cons.mp hr with rfl | h3
    · rw [List.countP_cons, List.countP_cons, hp, hq]
      have e : rs.countP q = rs.countP p := List.countP_congr (fun y hy => by rw [h y (List.mem_cons_of_mem _ hy) (fun e => h1 (by rw [← e]; exact hy))])
      simp [e]
    · have hne : x ≠ r := fun e => h1 (by rw [e]; exact h3)
      rw [List.countP_cons, List.countP_cons, ih h2 h3 (fun y hy => h y (List.mem_cons_of_mem _ hy)), h x List.mem_cons_self hne]
      omega
theorem alR_nd {F : Fl} (h : InvF F) : (alR (fB F)).Nodup ∧ ((alR (fB F)).map (·.1)).Nodup := by
  have h1 : ((alR (fB F)).map (·.1)).Nodup := adOk.nd h.1.2
  refine ⟨?_, h1⟩
  rw [List.nodup_iff_pairwise_ne] at h1 ⊢
  exact (List.pairwise_map.mp h1).imp (fun h e => h (by rw [e]))
theorem key_inj {rs : List Row} (h : (rs.map (·.1)).Nodup) {r s : Row} (hr : r ∈ rs) (hs : s ∈ rs) (e : r.1 = s.1) : r = s := by
  obtain ⟨i, hi⟩ := List.getElem?_of_mem hr
  obtain ⟨j, hj⟩ := List.getElem?_of_mem hs
  have h1 : (rs.map (·.1))[i]? = some r.1 := by rw [List.getElem?_map, hi]; rfl
  have h2 : (rs.map (·.1))[j]? = some r.1 := by rw [List.getElem?_map, hj, e]; rfl
  have := nodup_at h h1 h2
  subst this
  rw [hi] at hj
  exact Option.some.inj hj
/-- the least record behind a mark: what it changes -/
theorem nx_step {F : Fl} (hI : InvF F) {hi v : Nat} {m : Option Nat} {r : Row} (hr : r ∈ alR (fB F)) (hb : beh (fCh F) (fSd F) m r.1) (hl : ∀ r2 ∈ alR (fB F), beh (fCh F) (fSd F) m r2.1 → ¬ ahd (fCh F) (fSd F) r2.1 r.1) :
    rnk F hi v r.1 = cnM F hi v m ∧ cnM F hi v (some r.1) = cnM F hi v m + (if fld hi r.1 = v then 1 else 0) ∧ cnB F (some r.1) + 1 = cnB F m := by
  obtain ⟨hn, hk⟩ := alR_nd hI
  have key : ∀ x ∈ alR (fB F), x ≠ r → (behB (fCh F) (fSd F) (some r.1) x.1 = behB (fCh F) (fSd F) m x.1) := by
    intro x hx hne
    have hk1 : x.1 ≠ r.1 := fun e => hne (key_inj hk hx hr e)
    rw [Bool.eq_iff_iff, behB_iff, behB_iff]
    constructor
    · intro h
      cases m with
      | none => trivial
      | some a => exact ahd_tr hb h
    · intro h
      apply Classical.byContradiction
      intro h2
      exact hk1 (ahd_tot (hl x hx h) h2)
  have hbr : behB (fCh F) (fSd F) m r.1 = true := behB_iff.mpr hb
  have hrr : behB (fCh F) (fSd F) (some r.1) r.1 = false := by
    rw [Bool.eq_false_iff]
    intro h
    exact ahd_ir (behB_iff.mp h)
  refine ⟨?_, ?_, ?_⟩
  · refine List.countP_congr (fun x hx => ?_)
    by_cases e : x = r
    · subst e
      rw [hbr]
      have : ahdB (fCh F) (fSd F) x.1 x.1 = false := hrr
      rw [this]
      simp
    · have hk1 : x.1 ≠ r.1 := fun e2 => e (key_inj hk hx hr e2)
      have : ahdB (fCh F) (fSd F) x.1 r.1 = !behB (fCh F) (fSd F) m x.1 := by
        rw [Bool.eq_iff_iff, ahdB_iff, Bool.not_eq_true', Bool.eq_false_iff, ne_eq, behB_iff]
        constructor
        · exact fun h h2 => hl x hx h2 h
        · intro h
          apply Classical.byContradiction
          intro h2
          refine h ?_
          rw [← behB_iff, ← key x hx e, behB_iff]
          apply Classical.byContradiction
          intro h3
          exact hk1 (ahd_tot h2 h3)
      rw [this]
  · by_cases hv : fld hi r.1 = v
    · rw [if_pos hv]
      refine cnt_one hn hr (by rw [hbr]; simp) (by rw [hrr, decide_eq_true hv]; rfl) (fun x hx hne => ?_)
      rw [key x hx hne]
    · rw [if_neg hv, Nat.add_zero]
      refine List.countP_congr (fun x hx => ?_)
      by_cases e : x = r
      · subst e
        rw [decide_eq_false hv]
        simp
      · rw [key x hx e]
  · exact (cnt_one hn hr hrr hbr (fun x hx hne => (key x hx hne).symm)).symm
theorem cnM_none {F : Fl} {hi v : Nat} : cnM F hi v none = 0 := by
  unfold cnM
  rw [List.countP_eq_zero]
  intro r _
  simp [behB]
theorem rnk_lt {F : Fl} {hi v n : Nat} {m : Option Nat} (hno : ∀ r ∈ alR (fB F), ¬ beh (fCh F) (fSd F) m r.1) (hc : cnM F hi v m ≤ n) : ∀ r ∈ alR (fB F), fld hi r.1 = v → rnk F hi v r.1 ≠ n := by
  intro r hr hv e
  have h1 : rnk F hi v r.1 < cnM F hi v m := by
    unfold rnk cnM
    have hsub : ∀ rs : List Row, (∀ x ∈ rs, behB (fCh F) (fSd F) m x.1 = false) → rs.countP (fun x => decide (fld hi x.1 = v) && ahdB (fCh F) (fSd F) x.1 r.1) ≤ rs.countP (fun x => decide (fld hi x.1 = v) && !behB (fCh F) (fSd F) m x.1) := by
      intro rs h
      refine List.countP_mono_left (fun x hx hq => ?_)
      rw [h x hx]
      simp only [Bool.and_eq_true] at hq
      simp [hq.1]
    have hall : ∀ x ∈ alR (fB F), behB (fCh F) (fSd F) m x.1 = false := fun x hx => by
      rw [Bool.eq_false_iff]
      exact fun h => hno x hx (behB_iff.mp h)
    obtain ⟨s, t, hst⟩ := List.append_of_mem hr
    rw [hst] at hall ⊢
    rw [List.countP_append, List.countP_append, List.countP_cons, List.countP_cons]
    have a1 := hsub s (fun x hx => hall x (by simp [hx]))
    have a2 := hsub t (fun x hx => hall x (by simp [hx]))
    have a3 : (decide (fld hi r.1 = v) && ahdB (fCh F) (fSd F) r.1 r.1) = false := by
      have : ahdB (fCh F) (fSd F) r.1 r.1 = false := by
        rw [Bool.eq_false_iff]
        exact fun h => ahd_ir (ahdB_iff.mp h)
      rw [this, Bool.and_false]
    have a4 : (decide (fld hi r.1 = v) && !behB (fCh F) (fSd F) m r.1) = true := by
      rw [hall r (by simp), decide_eq_true hv]
      rfl
    rw [a3, a4]
    simp only [Bool.false_eq_true, if_false, if_true]
    omega
  omega
def uSk (F : Fl) : Nat := ((alR (fB F)).length + 1) * uBh (fC F) (fB F)
theorem ctX1_seekNow {l : Launch} {g : jG} (hG : GS l g) (bg : va_W) {x hi v n : Nat} {D : Dk} (hD : rD g bg x D) (hI : InvD D) (hh : hi = 0 ∨ hi = 1) (hv : v ≤ 99) (hn : n < 2 ^ 31) : KX1_seekNow l g 8 (uSk (dF D)) [.ref x, .int (nI hi), .int (nI v), .int (nI n)] bg [] (fun y wd => ∃ o, isSk (dF D) hi v n o ∧ y = some (.int (gA o)) ∧ wd = []) := by
  obtain ⟨f, kk, lg, cl, io, mk, hf, hk9, ess, essk, xs, c0, c1, c2, mv, a1, a2, hE, a4, -⟩ := hD
  have eU : uBh (fK5 (dF D)).1 (fB (dF D)) = uBh (fC (dF D)) (fB (dF D)) := rfl
  have hkk : ∀ r ∈ alR (fB (dF D)), r.1 < 10000 := fun r hr => by
    obtain ⟨i, b, h1, h2⟩ := alR_mem.mp hr
    exact ((hI.1.1.2 i b h1).1 r h2).1
  have hcl : ∀ m, cnB (dF D) m ≤ (alR (fB (dF D))).length := fun m => List.countP_le_length
  unfold uSk
  refine Ctr.of [some (.ref x), some (.int (nI hi)), some (.int (nI v)), some (.int (nI n)), none, none] hG (by decide +kernel) rfl (Nat.le_of_ble_eq_true rfl) (fun Y hl hN0 o r hIni => ?_)
  subst hl
  have hN : ∀ i, i < 6 → i < yN Y := fun i h => by rw [hN0]; exact h
  have loop : ∀ (d : Nat) (m : Option Nat) (iv : Value) (left u9 : Nat), cnB (dF D) m ≤ d → bst (fCh (dF D)) (fSd (dF D)) m (alR (fB (dF D))) bg iv → left + cnM (dF D) hi v m = n → u9 + cnB (dF D) m * uBh (fC (dF D)) (fB (dF D)) ≤ ((alR (fB (dF D))).length + 1) * uBh (fC (dF D)) (fB (dF D)) → J g Y [] u9 11 [some (.ref x), some (.int (nI hi)), some (.int (nI v)), some (.int (nI n)), some (.int (nI left)), some iv] [] := by
    intro d
    induction d with
    | zero =>
      intro m iv left u9 h1 h2 h3 h4
      rcases h2 with ⟨rfl, h2⟩ | ⟨e, r9, rfl, h5, h6, h7, h8⟩
      · refine j_ald o dX1_seekNow_11 rfl rfl (q := 13) rfl ?_
        refine j_ifnullN o 54 dX1_seekNow_13 (by decide) ?_
        refine j_iconst o (-1) dX1_seekNow_54 (by decide) (q := 55) rfl ?_
        exact j_ret o r dX1_seekNow_55 rfl [] _ rfl (⟨none, Or.inr ⟨rfl, rnk_lt h2 (by omega)⟩, rfl, rfl⟩) (by omega)
      · have := (nx_step (hi := hi) (v := v) hI.1 h6 h7 h8).2.2
        omega
    | succ d ih =>
      intro m iv left u9 h1 h2 h3 h4
      rcases h2 with ⟨rfl, h2⟩ | ⟨e, r9, rfl, h5, h6, h7, h8⟩
      · refine j_ald o dX1_seekNow_11 rfl rfl (q := 13) rfl ?_
        refine j_ifnullN o 54 dX1_seekNow_13 (by decide) ?_
        refine j_iconst o (-1) dX1_seekNow_54 (by decide) (q := 55) rfl ?_
        exact j_ret o r dX1_seekNow_55 rfl [] _ rfl (⟨none, Or.inr ⟨rfl, rnk_lt h2 (by omega)⟩, rfl, rfl⟩) (by omega)
      · obtain ⟨s1, s2, s3⟩ := nx_step (hi := hi) (v := v) hI.1 h6 h7 h8
        have hk9 := hkk r9 h6
        have hmul : cnB (dF D) m * uBh (fC (dF D)) (fB (dF D)) = cnB (dF D) (some r9.1) * uBh (fC (dF D)) (fB (dF D)) + uBh (fC (dF D)) (fB (dF D)) := by rw [← s3, Nat.succ_mul]
        have more : ∀ left2, left2 + cnM (dF D) hi v (some r9.1) = n → J g Y [] u9 40 [some (.ref x), some (.int (nI hi)), some (.int (nI v)), some (.int (nI n)), some (.int (nI left2)), some (.ref e)] [] := by
          intro left2 hl2
          refine j_ald_n o dX1_seekNow_40 rfl rfl (q := 41) rfl ?_
          refine j_ald o dX1_seekNow_41 rfl rfl (q := 43) rfl ?_
          refine j_gf o dX1_seekNow_43 (jb h5) kcX11 0 (Nat.le_of_ble_eq_true rfl) q447 rfl (q := 46) rfl ?_
          refine j_callV0 o (ctX1_behind hG _ (F5 := fK5 (dF D)) (m := some r9.1) (jmr a1) (a2.mono (fun _ => jmr)) (hE.mono (fun _ => jmr)) (jmr a4) hI.1.1 hI.1.2.1 hI.1.2.2.1 (fun a e => by cases e; exact hk9)) dX1_seekNow_46 q1252 wdX1_behind mdX1_behind (jb a1) (by rfl) (by rfl) rfl (Nat.le_of_ble_eq_true rfl) (Nat.le_of_ble_eq_true rfl) (by omega) (Nat.le_of_ble_eq_true rfl) (q := 49) rfl (fun v wd hpost => ?_)
          obtain ⟨⟨v2, rfl, hb⟩, rfl⟩ := hpost
          dsimp only [List.cons_append, List.nil_append, Option.toList]
          have hb : bst (fCh (dF D)) (fSd (dF D)) (some r9.1) (alR (fB (dF D))) bg v2 := hb
          have hjr : jrv v2 = true := by rcases hb with ⟨rfl, -⟩ | ⟨e, r, rfl, -⟩ <;> rfl
          refine j_ast5 o dX1_seekNow_49 hjr rfl (hN 5 (Nat.le_of_ble_eq_true rfl)) (q := 51) rfl ?_
          refine j_goto o 11 dX1_seekNow_51 (by decide) ?_
          exact ih (some r9.1) v2 left2 _ (by omega) hb hl2 (by omega)
        refine j_ald o dX1_seekNow_11 rfl rfl (q := 13) rfl ?_
        refine j_ifnull o dX1_seekNow_13 (q := 16) rfl ?_
        refine j_ald o dX1_seekNow_16 rfl rfl (q := 18) rfl ?_
        refine j_ild_n o dX1_seekNow_18 rfl (q := 19) rfl ?_
        refine j_ild_n o dX1_seekNow_19 rfl (q := 20) rfl ?_
        refine j_callV0 o (ctX11_isOf hG _ (jmr h5) (by omega) (by omega) hh) dX1_seekNow_20 q1372 wdX11_isOf mdX11_isOf (jb h5) (by rfl) (by rfl) rfl (Nat.le_of_ble_eq_true rfl) (Nat.le_of_ble_eq_true rfl) (by omega) (Nat.le_of_ble_eq_true rfl) (q := 23) rfl (fun v wd hpost => ?_)
        obtain ⟨rfl, rfl⟩ := hpost
        dsimp only [List.cons_append, List.nil_append, Option.toList]
        by_cases hfv : fld hi r9.1 = v
        · rw [show (if (if hi = 1 then r9.1 / 100 else r9.1 % 100) = v then 1 else 0 : Nat) = 1 from if_pos hfv]
          rw [if_pos hfv] at s2
          refine j_ifeqF o (t := 40) dX1_seekNow_23 (by decide) (q := 26) rfl (by decide) ?_
          refine j_ild o dX1_seekNow_26 rfl (q := 28) rfl ?_
          by_cases hl0 : left = 0
          · subst hl0
            refine j_ifneF o (t := 37) dX1_seekNow_28 (by decide) (q := 31) rfl rfl ?_
            refine j_ald o dX1_seekNow_31 rfl rfl (q := 33) rfl ?_
            refine j_gf o dX1_seekNow_33 (jb h5) kcX11 0 (Nat.le_of_ble_eq_true rfl) q447 rfl (q := 36) rfl ?_
            exact j_ret o r dX1_seekNow_36 rfl [] _ rfl (⟨some r9.1, Or.inl ⟨r9, h6, rfl, hfv, by omega⟩, rfl, rfl⟩) (by omega)
          · obtain ⟨left2, rfl⟩ : ∃ l2, left = l2 + 1 := ⟨left - 1, by omega⟩
            refine j_ifneT o 37 dX1_seekNow_28 (by decide) (nI_n0 (by omega) (by omega)) ?_
            refine j_inc4 o (nI left2) dX1_seekNow_37 (pk_m1 _) rfl (q := 40) rfl ?_
            exact more left2 (by omega)
        · rw [show (if (if hi = 1 then r9.1 / 100 else r9.1 % 100) = v then 1 else 0 : Nat) = 0 from if_neg hfv]
          rw [if_neg hfv] at s2
          refine j_ifeqT o 40 dX1_seekNow_23 (by decide) (by decide) ?_
          exact more left (by omega)
  have hc0 := hcl none
  have hmul0 : cnB (dF D) none * uBh (fC (dF D)) (fB (dF D)) ≤ (alR (fB (dF D))).length * uBh (fC (dF D)) (fB (dF D)) := Nat.mul_le_mul_right _ hc0
  have hsm : ((alR (fB (dF D))).length + 1) * uBh (fC (dF D)) (fB (dF D)) = (alR (fB (dF D))).length * uBh (fC (dF D)) (fB (dF D)) + uBh (fC (dF D)) (fB (dF D)) := Nat.succ_mul _ _
  refine j_ild_n o dX1_seekNow_0 rfl (q := 1) rfl ?_
  refine j_ist4 o dX1_seekNow_1 rfl (hN 4 (Nat.le_of_ble_eq_true rfl)) (q := 3) rfl ?_
  refine j_ald_n o dX1_seekNow_3 rfl rfl (q := 4) rfl ?_
  refine j_bipush o (-2) dX1_seekNow_4 (by decide) (q := 6) rfl ?_
  refine j_callV0 o (ctX1_behind hG _ (F5 := fK5 (dF D)) (m := none) (jmr a1) (a2.mono (fun _ => jmr)) (hE.mono (fun _ => jmr)) (jmr a4) hI.1.1 hI.1.2.1 hI.1.2.2.1 (fun a e => by cases e)) dX1_seekNow_6 q1252 wdX1_behind mdX1_behind (jb a1) (by rfl) (by rfl) rfl (Nat.le_of_ble_eq_true rfl) (Nat.le_of_ble_eq_true rfl) (by omega) (Nat.le_of_ble_eq_true rfl) (q := 9) rfl (fun v wd hpost => ?_)
  obtain ⟨⟨v2, rfl, hb⟩, rfl⟩ := hpost
  dsimp only [List.cons_append, List.nil_append, Option.toList]
  have hb : bst (fCh (dF D)) (fSd (dF D)) none (alR (fB (dF D))) bg v2 := hb
  have hjr : jrv v2 = true := by rcases hb with ⟨rfl, -⟩ | ⟨e, r, rfl, -⟩ <;> rfl
  refine j_ast5 o dX1_seekNow_9 hjr rfl (hN 5 (Nat.le_of_ble_eq_true rfl)) (q := 11) rfl ?_
  exact loop _ none v2 n _ (Nat.le_refl _) hb (by rw [cnM_none, Nat.add_zero]) (by omega)
theorem isSk.uniq {F : Fl} (hI : InvF F) {hi v n : Nat} {o1 o2 : Option Nat} (h1 : isSk F hi v n o1) (h2 : isSk F hi v n o2) : o1 = o2 := by
  have lt : ∀ r ∈ alR (fB F), ∀ s ∈ alR (fB F), fld hi r.1 = v → ahd (fCh F) (fSd F) r.1 s.1 → rnk F hi v r.1 < rnk F hi v s.1 := by
    intro r hr s _ hv hrs
    unfold rnk
    have hsub : ∀ rs : List Row, rs.countP (fun x => decide (fld hi x.1 = v) && ahdB (fCh F) (fSd F) x.1 r.1) ≤ rs.countP (fun x => decide (fld hi x.1 = v) && ahdB (fCh F) (fSd F) x.1 s.1) := by
      intro rs
      refine List.countP_mono_left (fun x hx hq => ?_)
      simp only [Bool.and_eq_true] at hq ⊢
      exact ⟨hq.1, ahdB_iff.mpr (ahd_tr (ahdB_iff.mp hq.2) hrs)⟩
    obtain ⟨a, b, hst⟩ := List.append_of_mem hr
    rw [hst, List.countP_append, List.countP_append, List.countP_cons, List.countP_cons]
    have a1 := hsub a
    have a2 := hsub b
    have a3 : (decide (fld hi r.1 = v) && ahdB (fCh F) (fSd F) r.1 r.1) = false := by
      have : ahdB (fCh F) (fSd F) r.1 r.1 = false := by
        rw [Bool.eq_false_iff]
        exact fun h => ahd_ir (ahdB_iff.mp h)
      rw [this, Bool.and_false]
    have a4 : (decide (fld hi r.1 = v) && ahdB (fCh F) (fSd F) r.1 s.1) = true := by
      rw [ahdB_iff.mpr hrs, decide_eq_true hv]
      rfl
    rw [a3, a4]
    simp only [Bool.false_eq_true, if_false, if_true]
    omega
  rcases h1 with ⟨r, a1, rfl, a2, a3⟩ | ⟨rfl, a1⟩
  · rcases h2 with ⟨s, b1, rfl, b2, b3⟩ | ⟨rfl, b1⟩
    · congr 1
      apply ahd_tot (ch := fCh F) (sd := fSd F)
      · intro h
        have := lt r a1 s b1 a2 h
        omega
      · intro h
        have := lt s b1 r a1 b2 h
        omega
    · exact absurd a3 (b1 r a1 a2)
  · rcases h2 with ⟨s, b1, rfl, b2, b3⟩ | ⟨rfl, b1⟩
    · exact absurd b3 (a1 s b1 b2)
    · rfl
theorem ctX1_seek {l : Launch} {g : jG} (hG : GS l g) (bg : va_W) {x hi v n : Nat} {D : Dk} (hD : rD g bg x D) (hI : InvD D) (hh : hi = 0 ∨ hi = 1) (hv : v ≤ 99) (hn : n < 2 ^ 31) : KX1_seek l g 9 (uSk (dF D)) [.ref x, .int (nI hi), .int (nI v), .int (nI n)] bg [] (fun y wd => ∃ o, isSk (dF D) hi v n o ∧ y = some (.int (gA o)) ∧ wd = []) := by
  obtain ⟨f, kk, lg, cl, io, mk, hf, hk9, ess, essk, xs, c0, c1, c2, mv, a1, -⟩ := id hD
  refine Ctr.of [some (.ref x), some (.int (nI hi)), some (.int (nI v)), some (.int (nI n))] hG (by decide +kernel) rfl (Nat.le_of_ble_eq_true rfl) (fun Y hl hN0 o r hIni => ?_)
  subst hl
  have hN : ∀ i, i < 4 → i < yN Y := fun i h => by rw [hN0]; exact h
  refine j_ild_n o dX1_seek_0 rfl (q := 1) rfl ?_
  refine j_callS0 o (ctX1_mustBeField hG _ hv) dX1_seek_1 q1365 wdX1_mustBeField mdX1_mustBeField rfl (Nat.le_of_ble_eq_true rfl) (Nat.le_of_ble_eq_true rfl) (by omega) (Nat.le_of_ble_eq_true rfl) (q := 4) rfl (fun v wd hpost => ?_)
  obtain ⟨rfl, rfl⟩ := hpost
  dsimp only [List.cons_append, List.nil_append, Option.toList]
  refine j_ild_n o dX1_seek_4 rfl (q := 5) rfl ?_
  refine j_ifltF o (t := 12) dX1_seek_5 (by decide) (q := 8) rfl (nI_pos hn) ?_
  refine j_iconst o (nI 1) dX1_seek_8 (by decide) (q := 9) rfl ?_
  refine j_goto o 13 dX1_seek_9 (by decide) ?_
  refine j_callS0 o (ctX1_mustFit hG _ rfl) dX1_seek_13 q1060 wdX1_mustFit mdX1_mustFit rfl (Nat.le_of_ble_eq_true rfl) (Nat.le_of_ble_eq_true rfl) (by omega) (Nat.le_of_ble_eq_true rfl) (q := 16) rfl (fun v wd hpost => ?_)
  obtain ⟨rfl, rfl⟩ := hpost
  dsimp only [List.cons_append, List.nil_append, Option.toList]
  refine j_ald_n o dX1_seek_16 rfl rfl (q := 17) rfl ?_
  refine j_ild_n o dX1_seek_17 rfl (q := 18) rfl ?_
  refine j_ild_n o dX1_seek_18 rfl (q := 19) rfl ?_
  refine j_ild_n o dX1_seek_19 rfl (q := 20) rfl ?_
  refine j_callV0 o (ctX1_seekNow hG _ (hD.mono (fun _ => jmr)) hI hh hv hn) dX1_seek_20 q1368 wdX1_seekNow mdX1_seekNow (jb a1) (by rfl) (by rfl) rfl (Nat.le_of_ble_eq_true rfl) (Nat.le_of_ble_eq_true rfl) (by omega) (Nat.le_of_ble_eq_true rfl) (q := 23) rfl (fun v wd hpost => ?_)
  obtain ⟨oo, h1, rfl, rfl⟩ := hpost
  dsimp only [List.cons_append, List.nil_append, Option.toList]
  exact j_ret o r dX1_seek_23 rfl [] _ rfl (⟨oo, h1, rfl, rfl⟩) (by omega)
theorem ctxX1_seek {l : Launch} {g : jG} (hG : GS l g) (bg : va_W) {x hi : Nat} {p q : Int32} (h : ¬ (inI 99 p ∧ ¬ q < 0)) : EX1_seek l g 9 1 [.ref x, .int (nI hi), .int p, .int q] bg xIAE := by
  refine CtrX.of [some (.ref x), some (.int (nI hi)), some (.int p), some (.int q)] hG (by decide +kernel) rfl (Nat.le_of_ble_eq_true rfl) (fun Y hl hN0 o r => ?_)
  subst hl
  have hN : ∀ i, i < 4 → i < yN Y := fun i h => by rw [hN0]; exact h
  refine j_ild_n o dX1_seek_0 rfl (q := 1) rfl ?_
  by_cases h1 : inI 99 p
  · obtain ⟨k, rfl, hk⟩ := inI_n h1 (by omega)
    refine j_callS0 o (ctX1_mustBeField hG _ hk) dX1_seek_1 q1365 wdX1_mustBeField mdX1_mustBeField rfl (Nat.le_of_ble_eq_true rfl) (Nat.le_of_ble_eq_true rfl) (by omega) (Nat.le_of_ble_eq_true rfl) (q := 4) rfl (fun v wd hpost => ?_)
    obtain ⟨rfl, rfl⟩ := hpost
    dsimp only [List.cons_append, List.nil_append, Option.toList]
    refine j_ild_n o dX1_seek_4 rfl (q := 5) rfl ?_
    refine j_ifltT o 12 dX1_seek_5 (by decide) (Classical.byContradiction (fun h2 => h ⟨h1, h2⟩)) ?_
    refine j_iconst o (nI 0) dX1_seek_12 (by decide) (q := 13) rfl ?_
    exact j_callXS o (ctxX1_mustFit hG _) dX1_seek_13 q1060 wdX1_mustFit mdX1_mustFit rfl (Nat.le_of_ble_eq_true rfl) (Nat.le_of_ble_eq_true rfl) (by omega) (Nat.le_of_ble_eq_true rfl) (j_outX o r (by omega))
  · exact j_callXS o (ctxX1_mustBeField hG _ h1) dX1_seek_1 q1365 wdX1_mustBeField mdX1_mustBeField rfl (Nat.le_of_ble_eq_true rfl) (Nat.le_of_ble_eq_true rfl) (by omega) (Nat.le_of_ble_eq_true rfl) (j_outX o r (by omega))
def vsA (F : Fl) (hi v : Nat) : Nat := vis (fCh F) (fSd F) hi v (fB F).length (fB F).length
theorem ctX1_visits {l : Launch} {g : jG} (hG : GS l g) (bg : va_W) {x hi v : Nat} {D : Dk} (hD : rD g bg x D) (hI : InvD D) (hh : hi = 0 ∨ hi = 1) (hv : v ≤ 99) : KX1_visits l g 5 0 [.ref x, .int (nI hi), .int (nI v)] bg [] (fun y wd => y = some (.int (nI (vsA (dF D) hi v))) ∧ wd = []) := by
  obtain ⟨f, kk, lg, cl, io, mk, hf, hk9, ess, essk, xs, c0, c1, c2, mv, a1, a2, hE, a4, -⟩ := id hD
  obtain ⟨bl, tk, qs, r1, -⟩ := id a2
  have hfi := hI.1.1.1
  refine Ctr.of [some (.ref x), some (.int (nI hi)), some (.int (nI v))] hG (by decide +kernel) rfl (Nat.le_of_ble_eq_true rfl) (fun Y hl hN0 o r hIni => ?_)
  subst hl
  have hN : ∀ i, i < 3 → i < yN Y := fun i h => by rw [hN0]; exact h
  refine j_ild_n o dX1_visits_0 rfl (q := 1) rfl ?_
  refine j_callS0 o (ctX1_mustBeField hG _ hv) dX1_visits_1 q1365 wdX1_mustBeField mdX1_mustBeField rfl (Nat.le_of_ble_eq_true rfl) (Nat.le_of_ble_eq_true rfl) (by omega) (Nat.le_of_ble_eq_true rfl) (q := 4) rfl (fun v wd hpost => ?_)
  obtain ⟨rfl, rfl⟩ := hpost
  dsimp only [List.cons_append, List.nil_append, Option.toList]
  refine j_ald_n o dX1_visits_4 rfl rfl (q := 5) rfl ?_
  refine j_gf o dX1_visits_5 (jb a1) kcX1 7 (Nat.le_of_ble_eq_true rfl) q360 rfl (q := 8) rfl ?_
  refine j_ild_n o dX1_visits_8 rfl (q := 9) rfl ?_
  refine j_ild_n o dX1_visits_9 rfl (q := 10) rfl ?_
  refine j_callV0 o (ctX2_visits hG _ (a2.mono (fun _ => jmr)) (jmr a4) hfi.2.2.1 hfi.2.2.2.1 hI.1.2.1 hI.1.2.2.1 hh (by omega)) dX1_visits_10 q1021 wdX2_visits mdX2_visits (jb r1) (by rfl) (by rfl) rfl (Nat.le_of_ble_eq_true rfl) (Nat.le_of_ble_eq_true rfl) (by omega) (Nat.le_of_ble_eq_true rfl) (q := 13) rfl (fun v wd hpost => ?_)
  obtain ⟨rfl, rfl⟩ := hpost
  dsimp only [List.cons_append, List.nil_append, Option.toList]
  exact j_ret o r dX1_visits_13 rfl [] _ rfl (⟨rfl, rfl⟩) (by omega)
theorem ctxX1_visits {l : Launch} {g : jG} (hG : GS l g) (bg : va_W) {x hi : Nat} {p : Int32} (h : ¬ inI 99 p) : EX1_visits l g 9 1 [.ref x, .int (nI hi), .int p] bg xIAE := by
  refine CtrX.of [some (.ref x), some (.int (nI hi)), some (.int p)] hG (by decide +kernel) rfl (Nat.le_of_ble_eq_true rfl) (fun Y hl hN0 o r => ?_)
  subst hl
  have hN : ∀ i, i < 3 → i < yN Y := fun i h => by rw [hN0]; exact h
  refine j_ild_n o dX1_visits_0 rfl (q := 1) rfl ?_
  exact j_callXS o (ctxX1_mustBeField hG _ h) dX1_visits_1 q1365 wdX1_mustBeField mdX1_mustBeField rfl (Nat.le_of_ble_eq_true rfl) (Nat.le_of_ble_eq_true rfl) (by omega) (Nat.le_of_ble_eq_true rfl) (j_outX o r (by omega))
def wdA (F : Fl) : Nat → Int32
  | 0 => nI (usd (fB F)).length
  | 1 => nI (lng (fB F))
  | 2 => nI (vsA F 1 0)
  | _ => nI (vsA F 0 0)
theorem ctX1_would {l : Launch} {g : jG} (hG : GS l g) (bg : va_W) {x ch sd what : Nat} {D : Dk} (hD : rD g bg x D) (hI : InvD D) (hc : ch ≤ 1023) (hs : sd ≤ 9) (hw : what ≤ 3) : KX1_would l g 13 (uCopy (fB (dF D)) + uRe (dF D) ch sd) [.ref x, .int (nI ch), .int (nI sd), .int (nI what)] bg [] (fun y wd => y = some (.int (wdA (fRe (dF D) ch sd) what)) ∧ wd = []) := by
  obtain ⟨f, kk, lg, cl, io, mk, hf, hk9, ess, essk, xs, c0, c1, c2, mv, a1, a2, hE, a4, -⟩ := id hD
  obtain ⟨bl, tk, qs, r1, -⟩ := id a2
  obtain ⟨hI2, e1, e2, e3⟩ := fRe_inv hI.1 (ch := ch) (sd := sd) (by omega) (by omega)
  have hfit := hI2.1.1
  refine Ctr.of [some (.ref x), some (.int (nI ch)), some (.int (nI sd)), some (.int (nI what)), none] hG (by decide +kernel) rfl (Nat.le_of_ble_eq_true rfl) (fun Y hl hN0 o r hIni => ?_)
  subst hl
  have hN : ∀ i, i < 5 → i < yN Y := fun i h => by rw [hN0]; exact h
  refine j_ild_n o dX1_would_0 rfl (q := 1) rfl ?_
  refine j_ild_n o dX1_would_1 rfl (q := 2) rfl ?_
  refine j_callS0 o (ctX1_mustBeHashing hG _ hc hs) dX1_would_2 q1173 wdX1_mustBeHashing mdX1_mustBeHashing rfl (Nat.le_of_ble_eq_true rfl) (Nat.le_of_ble_eq_true rfl) (by omega) (Nat.le_of_ble_eq_true rfl) (q := 5) rfl (fun v wd hpost => ?_)
  obtain ⟨rfl, rfl⟩ := hpost
  dsimp only [List.cons_append, List.nil_append, Option.toList]
  refine j_ild_n o dX1_would_5 rfl (q := 6) rfl ?_
  refine j_iconst o (nI 0) dX1_would_6 (by decide) (q := 7) rfl ?_
  refine j_iconst o (nI 3) dX1_would_7 (by decide) (q := 8) rfl ?_
  refine j_callS0 o (ctX1_isIn hG _ _ _ _) dX1_would_8 q1057 wdX1_isIn mdX1_isIn rfl (Nat.le_of_ble_eq_true rfl) (Nat.le_of_ble_eq_true rfl) (by omega) (Nat.le_of_ble_eq_true rfl) (q := 11) rfl (fun v wd hpost => ?_)
  obtain ⟨rfl, rfl⟩ := hpost
  dsimp only [List.cons_append, List.nil_append, Option.toList]
  rw [isIn1 ⟨Nat.zero_le _, hw⟩ (by omega)]
  refine j_callS0 o (ctX1_mustFit hG _ rfl) dX1_would_11 q1060 wdX1_mustFit mdX1_mustFit rfl (Nat.le_of_ble_eq_true rfl) (Nat.le_of_ble_eq_true rfl) (by omega) (Nat.le_of_ble_eq_true rfl) (q := 14) rfl (fun v wd hpost => ?_)
  obtain ⟨rfl, rfl⟩ := hpost
  dsimp only [List.cons_append, List.nil_append, Option.toList]
  refine j_ald_n o dX1_would_14 rfl rfl (q := 15) rfl ?_
  refine j_gf o dX1_would_15 (jb a1) kcX1 7 (Nat.le_of_ble_eq_true rfl) q360 rfl (q := 18) rfl ?_
  refine j_callV0 o (ctX2_copy hG _ (a2.mono (fun _ => jmr)) (hE.mono (fun _ => jmr)) (jmr a4) hI.1.1) dX1_would_18 q410 wdX2_copy mdX2_copy (jb r1) (by rfl) (by rfl) rfl (Nat.le_of_ble_eq_true rfl) (Nat.le_of_ble_eq_true rfl) (by omega) (Nat.le_of_ble_eq_true rfl) (q := 21) rfl (fun v wd hpost => ?_)
  obtain ⟨q2, ess2, w, we, rfl, rfl, hS, hE2⟩ := hpost
  dsimp only [List.cons_append, List.nil_append, Option.toList]
  have hS : isF g hf q2 (dF D) ess2 w := hS
  obtain ⟨bl2, tk2, qs2, z1, -⟩ := isSt.r (S := w) hS (fun _ h => h)
  refine j_ast4 o dX1_would_21 rfl rfl (hN 4 (Nat.le_of_ble_eq_true rfl)) (q := 23) rfl ?_
  refine j_ald o dX1_would_23 rfl rfl (q := 25) rfl ?_
  refine j_ild_n o dX1_would_25 rfl (q := 26) rfl ?_
  refine j_ild_n o dX1_would_26 rfl (q := 27) rfl ?_
  refine j_callV2 o (ctX2_rehash hG _ hS hE2 hI.1 (by omega) (by omega)) dX1_would_27 q1390 wdX2_rehash mdX2_rehash (jwm 0 rfl z1) (by rfl) (by rfl) rfl (Nat.le_of_ble_eq_true rfl) (Nat.le_of_ble_eq_true rfl) (by omega) (Nat.le_of_ble_eq_true rfl) (q := 30) rfl (fun v wd hpost => ?_)
  obtain ⟨rfl, h2, ess3, w3, we3, rfl, hS3, hE3⟩ := hpost
  dsimp only [List.cons_append, List.nil_append, Option.toList]
  have hR3 := isSt.r (S := w3) hS3 (fun _ h => h)
  obtain ⟨bl3, tk3, qs3, z1, z2, z3, z4, -⟩ := id hR3
  refine j_ild_n o dX1_would_30 rfl (q := 31) rfl ?_
  obtain rfl | rfl | rfl | rfl : what = 0 ∨ what = 1 ∨ what = 2 ∨ what = 3 := by omega
  · refine j_lookup o 56 dX1_would_31 (by decide) (off := 25) (by decide) (by decide) ?_
    refine j_ald o dX1_would_56 rfl rfl (q := 58) rfl ?_
    refine j_callV0 o (ctX2_taken hG _ (jwl 0 rfl z1) (jwl 0 rfl z2)) dX1_would_58 q662 wdX2_taken mdX2_taken (jwm 0 rfl z1) (by rfl) (by rfl) rfl (Nat.le_of_ble_eq_true rfl) (Nat.le_of_ble_eq_true rfl) (by omega) (Nat.le_of_ble_eq_true rfl) (q := 61) rfl (fun v wd hpost => ?_)
    obtain ⟨rfl, rfl⟩ := hpost
    dsimp only [List.cons_append, List.nil_append, Option.toList]
    exact j_ret o r dX1_would_61 rfl [] _ rfl (⟨by rw [usd_cnt hfit]; rfl, rfl⟩) (by omega)
  · refine j_lookup o 62 dX1_would_31 (by decide) (off := 31) (by decide) (by decide) ?_
    refine j_ald o dX1_would_62 rfl rfl (q := 64) rfl ?_
    refine j_callV0 o (ctX2_longest hG _ (hR3.mono (fun _ h => jwl 0 rfl h)) (fun b hb => by obtain ⟨i, hi⟩ := List.getElem?_of_mem hb; rw [← bAt_get hi]; exact hfit.m16 (get_lt hi))) dX1_would_64 q680 wdX2_longest mdX2_longest (jwm 0 rfl z1) (by rfl) (by rfl) rfl (Nat.le_of_ble_eq_true rfl) (Nat.le_of_ble_eq_true rfl) (by omega) (Nat.le_of_ble_eq_true rfl) (q := 67) rfl (fun v wd hpost => ?_)
    obtain ⟨rfl, rfl⟩ := hpost
    dsimp only [List.cons_append, List.nil_append, Option.toList]
    exact j_ret o r dX1_would_67 rfl [] _ rfl (⟨rfl, rfl⟩) (by omega)
  · refine j_lookup o 68 dX1_would_31 (by decide) (off := 37) (by decide) (by decide) ?_
    refine j_ald o dX1_would_68 rfl rfl (q := 70) rfl ?_
    refine j_ild_n o dX1_would_70 rfl (q := 71) rfl ?_
    refine j_iconst o (nI 2) dX1_would_71 (by decide) (q := 72) rfl ?_
    refine j_icneF o (t := 79) dX1_would_72 (by decide) (q := 75) rfl rfl ?_
    refine j_iconst o (nI 1) dX1_would_75 (by decide) (q := 76) rfl ?_
    refine j_goto o 80 dX1_would_76 (by decide) ?_
    refine j_iconst o (nI 0) dX1_would_80 (by decide) (q := 81) rfl ?_
    refine j_callV0 o (ctX2_visits hG _ (hR3.mono (fun _ h => jwl 0 rfl h)) (ch := ch) (sd := sd) (jwl 2 rfl (List.mem_singleton.mpr rfl)) hfit.2.2.1 hfit.2.2.2.1 (by omega) (by omega) (Or.inr rfl) (show 0 < 100 by omega)) dX1_would_81 q1021 wdX2_visits mdX2_visits (jwm 0 rfl z1) (by rfl) (by rfl) rfl (Nat.le_of_ble_eq_true rfl) (Nat.le_of_ble_eq_true rfl) (by omega) (Nat.le_of_ble_eq_true rfl) (q := 84) rfl (fun v wd hpost => ?_)
    obtain ⟨rfl, rfl⟩ := hpost
    dsimp only [List.cons_append, List.nil_append, Option.toList]
    exact j_ret o r dX1_would_84 rfl [] _ rfl (⟨by show _ = some (Value.int (nI (vis (fRe (dF D) ch sd).2.1.1 (fRe (dF D) ch sd).2.1.2 1 0 _ _))); rw [e3], rfl⟩) (by omega)
  · refine j_lookup o 68 dX1_would_31 (by decide) (off := 37) (by decide) (by decide) ?_
    refine j_ald o dX1_would_68 rfl rfl (q := 70) rfl ?_
    refine j_ild_n o dX1_would_70 rfl (q := 71) rfl ?_
    refine j_iconst o (nI 2) dX1_would_71 (by decide) (q := 72) rfl ?_
    refine j_icneT o 79 dX1_would_72 (by decide) (by decide) ?_
    refine j_iconst o (nI 0) dX1_would_79 (by decide) (q := 80) rfl ?_
    refine j_iconst o (nI 0) dX1_would_80 (by decide) (q := 81) rfl ?_
    refine j_callV0 o (ctX2_visits hG _ (hR3.mono (fun _ h => jwl 0 rfl h)) (ch := ch) (sd := sd) (jwl 2 rfl (List.mem_singleton.mpr rfl)) hfit.2.2.1 hfit.2.2.2.1 (by omega) (by omega) (Or.inl rfl) (show 0 < 100 by omega)) dX1_would_81 q1021 wdX2_visits mdX2_visits (jwm 0 rfl z1) (by rfl) (by rfl) rfl (Nat.le_of_ble_eq_true rfl) (Nat.le_of_ble_eq_true rfl) (by omega) (Nat.le_of_ble_eq_true rfl) (q := 84) rfl (fun v wd hpost => ?_)
    obtain ⟨rfl, rfl⟩ := hpost
    dsimp only [List.cons_append, List.nil_append, Option.toList]
    exact j_ret o r dX1_would_84 rfl [] _ rfl (⟨by show _ = some (Value.int (nI (vis (fRe (dF D) ch sd).2.1.1 (fRe (dF D) ch sd).2.1.2 0 0 _ _))); rw [e3], rfl⟩) (by omega)
theorem ctxX1_would {l : Launch} {g : jG} (hG : GS l g) (bg : va_W) {x : Nat} {p q r9 : Int32} (h : ¬ ((inI 1023 p ∧ inI 9 q) ∧ inI 3 r9)) : EX1_would l g 9 1 [.ref x, .int p, .int q, .int r9] bg xIAE := by
  refine CtrX.of [some (.ref x), some (.int p), some (.int q), some (.int r9), none] hG (by decide +kernel) rfl (Nat.le_of_ble_eq_true rfl) (fun Y hl hN0 o r => ?_)
  subst hl
  have hN : ∀ i, i < 5 → i < yN Y := fun i h => by rw [hN0]; exact h
  refine j_ild_n o dX1_would_0 rfl (q := 1) rfl ?_
  refine j_ild_n o dX1_would_1 rfl (q := 2) rfl ?_
  by_cases h1 : inI 1023 p ∧ inI 9 q
  · obtain ⟨k, rfl, hk⟩ := inI_n h1.1 (by omega)
    obtain ⟨m, rfl, hm⟩ := inI_n h1.2 (by omega)
    refine j_callS0 o (ctX1_mustBeHashing hG _ hk hm) dX1_would_2 q1173 wdX1_mustBeHashing mdX1_mustBeHashing rfl (Nat.le_of_ble_eq_true rfl) (Nat.le_of_ble_eq_true rfl) (by omega) (Nat.le_of_ble_eq_true rfl) (q := 5) rfl (fun v wd hpost => ?_)
    obtain ⟨rfl, rfl⟩ := hpost
    dsimp only [List.cons_append, List.nil_append, Option.toList]
    refine j_ild_n o dX1_would_5 rfl (q := 6) rfl ?_
    refine j_iconst o (nI 0) dX1_would_6 (by decide) (q := 7) rfl ?_
    refine j_iconst o (nI 3) dX1_would_7 (by decide) (q := 8) rfl ?_
    refine j_callS0 o (ctX1_isIn hG _ _ _ _) dX1_would_8 q1057 wdX1_isIn mdX1_isIn rfl (Nat.le_of_ble_eq_true rfl) (Nat.le_of_ble_eq_true rfl) (by omega) (Nat.le_of_ble_eq_true rfl) (q := 11) rfl (fun v wd hpost => ?_)
    obtain ⟨rfl, rfl⟩ := hpost
    dsimp only [List.cons_append, List.nil_append, Option.toList]
    rw [isIn0 (fun h2 => h ⟨h1, h2⟩)]
    exact j_callXS o (ctxX1_mustFit hG _) dX1_would_11 q1060 wdX1_mustFit mdX1_mustFit rfl (Nat.le_of_ble_eq_true rfl) (Nat.le_of_ble_eq_true rfl) (by omega) (Nat.le_of_ble_eq_true rfl) (j_outX o r (by omega))
  · exact j_callXS o (ctxX1_mustBeHashing hG _ h1) dX1_would_2 q1173 wdX1_mustBeHashing mdX1_mustBeHashing rfl (Nat.le_of_ble_eq_true rfl) (Nat.le_of_ble_eq_true rfl) (by omega) (Nat.le_of_ble_eq_true rfl) (j_outX o r (by omega))

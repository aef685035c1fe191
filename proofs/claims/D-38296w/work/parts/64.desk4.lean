/-! THE DESK, fourth: the next record in order -/
set_option maxRecDepth 100000
def beh (ch sd : Nat) (m : Option Nat) (k : Nat) : Prop := match m with | none => True | some a => ahd ch sd a k
def mkV (m : Option Nat) : Int32 := match m with | none => -2 | some a => nI a
/-- the best of some rows so far -/
def bst (ch sd : Nat) (m : Option Nat) (rs : List Row) (S : va_W) (v : Value) : Prop := (v = .null ∧ ∀ r ∈ rs, ¬ beh ch sd m r.1) ∨ ∃ e r, v = .ref e ∧ (e, enO r) ∈ S ∧ r ∈ rs ∧ beh ch sd m r.1 ∧ ∀ r2 ∈ rs, beh ch sd m r2.1 → ¬ ahd ch sd r2.1 r.1
theorem ahd_tr {ch sd a b c : Nat} (h1 : ahd ch sd a b) (h2 : ahd ch sd b c) : ahd ch sd a c := by
  unfold ahd at *
  omega
theorem ahd_ir {ch sd a : Nat} : ¬ ahd ch sd a a := by
  unfold ahd
  omega
theorem bst.no {ch sd : Nat} {m : Option Nat} {rs : List Row} {S : va_W} {v : Value} {r : Row} (h : bst ch sd m rs S v) (hr : ¬ beh ch sd m r.1) : bst ch sd m (rs ++ [r]) S v := by
  rcases h with ⟨h1, h2⟩ | ⟨e, r0, h1, h2, h3, h4, h5⟩
  · exact Or.inl ⟨h1, fun x hx => by
      rcases List.mem_append.mp hx with hx | hx
      · exact h2 x hx
      · rw [List.mem_singleton.mp hx]; exact hr⟩
  · exact Or.inr ⟨e, r0, h1, h2, by simp [h3], h4, fun x hx hb => by
      rcases List.mem_append.mp hx with hx | hx
      · exact h5 x hx hb
      · rw [List.mem_singleton.mp hx] at hb; exact absurd hb hr⟩
theorem bst.new {ch sd : Nat} {m : Option Nat} {rs : List Row} {S : va_W} {v : Value} {r : Row} {e : Nat} (h : bst ch sd m rs S v) (hr : beh ch sd m r.1) (he : (e, enO r) ∈ S) (hn : ∀ e0 r0, v = .ref e0 → (e0, enO r0) ∈ S → r0 ∈ rs → ahd ch sd r.1 r0.1) : bst ch sd m (rs ++ [r]) S (.ref e) := by
  refine Or.inr ⟨e, r, rfl, he, by simp, hr, fun x hx hb => ?_⟩
  rcases List.mem_append.mp hx with hx | hx
  · rcases h with ⟨h1, h2⟩ | ⟨e0, r0, h1, h2, h3, h4, h5⟩
    · exact absurd hb (h2 x hx)
    · exact fun h9 => h5 x hx hb (ahd_tr h9 (hn e0 r0 h1 h2 h3))
  · rw [List.mem_singleton.mp hx]; exact ahd_ir
theorem bst.old {ch sd : Nat} {m : Option Nat} {rs : List Row} {S : va_W} {e0 : Nat} {r r0 : Row} (h : (e0, enO r0) ∈ S ∧ r0 ∈ rs ∧ beh ch sd m r0.1 ∧ ∀ r2 ∈ rs, beh ch sd m r2.1 → ¬ ahd ch sd r2.1 r0.1) (hn : ¬ ahd ch sd r.1 r0.1) : bst ch sd m (rs ++ [r]) S (.ref e0) := by
  obtain ⟨h2, h3, h4, h5⟩ := h
  exact Or.inr ⟨e0, r0, rfl, h2, by simp [h3], h4, fun x hx hb => by
      rcases List.mem_append.mp hx with hx | hx
      · exact h5 x hx hb
      · rw [List.mem_singleton.mp hx]; exact hn⟩
theorem bst.newR {ch sd : Nat} {m : Option Nat} {rs : List Row} {S : va_W} {r r0 : Row} {e e0 : Nat} (h : (e0, enO r0) ∈ S ∧ r0 ∈ rs ∧ beh ch sd m r0.1 ∧ ∀ r2 ∈ rs, beh ch sd m r2.1 → ¬ ahd ch sd r2.1 r0.1) (hr : beh ch sd m r.1) (he : (e, enO r) ∈ S) (ha : ahd ch sd r.1 r0.1) : bst ch sd m (rs ++ [r]) S (.ref e) := by
  refine Or.inr ⟨e, r, rfl, he, by simp, hr, fun x hx hb => ?_⟩
  rcases List.mem_append.mp hx with hx | hx
  · exact fun h9 => h.2.2.2 x hx hb (ahd_tr h9 ha)
  · rw [List.mem_singleton.mp hx]; exact ahd_ir
theorem nI_m2 {a : Nat} (h : a < 2 ^ 31) : nI a ≠ -2 := by
  intro e
  have h1 := congrArg Int32.toInt e
  rw [show nI a = Int32.ofNat a from rfl, Int32.toInt_ofNat_of_lt (by omega)] at h1
  have h2 : (-2 : Int32).toInt = -2 := by decide
  rw [h2] at h1
  omega
def uBh (cap : Nat) : List Bkt → Nat
  | [] => 0
  | b :: B => uBall cap b.1.length b.2.1.length + uBh cap B
theorem alR_take {B : List Bkt} {k : Nat} (h : k < B.length) : alR (B.take (k + 1)) = alR (B.take k) ++ (bAt B k).1 := by
  rw [List.take_add_one, bAt_ex h]
  simp [alR]
theorem ctX1_behind {l : Launch} {g : jG} (hG : GS l g) (bg : va_W) {x f k lg cl io mk hs sz ch sd lv pt : Nat} {n : N7} {F5 : K5} {B : List Bkt} {ess : List (List Nat)} {m : Option Nat} (hx : (x, dkO n f k lg cl io mk) ∈ bg) (hR : stR g bg hs f F5 lv pt sz B ess) (hE : entB bg ess B) (hh : (hs, hsO ch sd) ∈ bg) (hI9 : Inv F5.1 ch sd B) (hc : ch < 1024) (hs9 : sd < 10) (hm : ∀ a, m = some a → a < 10000) : KX1_behind l g 7 (uBh F5.1 B) [.ref x, .int (mkV m)] bg [] (fun v wd => (∃ v2, v = some v2 ∧ bst ch sd m (alR B) bg v2) ∧ wd = []) := by
  have hf := hI9.1
  have hwf := hf.2.2.2.2.2.1
  have f5 := hf.2.2.2.2.1
  have f4 := hf.2.2.2.1
  obtain ⟨bl, tk, qs, r1, r2, r3, r4, r5, r6⟩ := hR
  obtain ⟨m5, b5, hz5, -⟩ := id r3
  refine Ctr.of [some (.ref x), some (.int (mkV m)), none, none, none, none, none, none] hG (by decide +kernel) rfl (Nat.le_of_ble_eq_true rfl) (fun Y hl hN0 o r hI => ?_)
  subst hl
  have hN : ∀ i, i < 8 → i < yN Y := fun i h => by rw [hN0]; exact h
  have loop : ∀ (d i : Nat) (vb : Value) (u9 : Nat) (y4 y5 y6 y7 : Option Value), i + d = B.length → bst ch sd m (alR (B.take i)) bg vb → u9 + uBh F5.1 (B.drop i) ≤ uBh F5.1 B → J g Y [] u9 4 [some (.ref x), some (.int (mkV m)), some vb, some (.int (nI i)), y4, y5, y6, y7] [] := by
    intro d
    induction d with
    | zero =>
      intro i vb u9 y4 y5 y6 y7 d1 d2 d3
      rw [List.take_of_length_le (by omega)] at d2
      refine j_ild_n o dX1_behind_4 rfl (q := 5) rfl ?_
      refine j_ald_n o dX1_behind_5 rfl rfl (q := 6) rfl ?_
      refine j_gf o dX1_behind_6 (jb hx) kcX1 7 (Nat.le_of_ble_eq_true rfl) q360 rfl (q := 9) rfl ?_
      refine j_gf o dX1_behind_9 (jb r1) kcX2 9 (Nat.le_of_ble_eq_true rfl) q310 rfl (q := 12) rfl ?_
      refine j_callV0 o (ctJ2_size hG _ (jmr hz5)) dX1_behind_12 q398 wdJ2_size mdJ2_size (jb hz5) (by rfl) (by rfl) rfl (Nat.le_of_ble_eq_true rfl) (Nat.le_of_ble_eq_true rfl) (by omega) (Nat.le_of_ble_eq_true rfl) (q := 15) rfl (fun v wd hpost => ?_)
      obtain ⟨rfl, rfl⟩ := hpost
      dsimp only [List.cons_append, List.nil_append, Option.toList]
      refine j_icgeT o 140 dX1_behind_15 (by decide) (nI_le (by omega) (by omega)) ?_
      rcases d2 with ⟨rfl, h2⟩ | ⟨e, r9, rfl, h2⟩
      · refine j_ald_n o dX1_behind_140 rfl rfl (q := 141) rfl ?_
        exact j_aret o r dX1_behind_141 (by first | exact Or.inl ⟨_, rfl⟩ | exact Or.inr ⟨_, rfl⟩) rfl [] _ rfl (⟨⟨_, rfl, Or.inl ⟨rfl, h2⟩⟩, rfl⟩) (by omega)
      · refine j_ald_n o dX1_behind_140 rfl rfl (q := 141) rfl ?_
        exact j_aret o r dX1_behind_141 (by first | exact Or.inl ⟨_, rfl⟩ | exact Or.inr ⟨_, rfl⟩) rfl [] _ rfl (⟨⟨_, rfl, Or.inr ⟨e, r9, rfl, h2⟩⟩, rfl⟩) (by omega)
    | succ d ih =>
      intro i vb u9 y4 y5 y6 y7 d1 d2 d3
      obtain ⟨qb, hqb⟩ := get_ex (xs := qs) (i := i) (by omega)
      obtain ⟨es, hes⟩ := get_ex (xs := ess) (i := i) (by omega)
      have hB := bAt_ex (B := B) (i := i) (by omega)
      have hbR := r6 i qb _ es hqb hB hes
      have hER := hE.2 i es _ hes hB
      obtain ⟨k1, k2, k3, k4, k5⟩ := hwf.at (i := i) (by omega)
      have hrk := rws_at (B := B) (i := i) (by omega)
      have hER1 := hER.1
      obtain ⟨cb, ps, c1, c2, c3⟩ := id hbR
      have hrows : ∀ r ∈ (bAt B i).1, r.1 < 2 ^ 31 := hI9.rk (by omega)
      have hd : B.drop i = bAt B i :: B.drop (i + 1) := (by rw [List.drop_eq_getElem_cons (by omega)]; congr 1; rw [List.getElem?_eq_getElem (by omega)] at hB; exact Option.some.inj hB)
      rw [hd] at d3
      have d3 : u9 + (uBall F5.1 (bAt B i).1.length (bAt B i).2.1.length + uBh F5.1 (B.drop (i + 1))) ≤ uBh F5.1 B := d3
      rw [← hER1] at d3
      refine j_ild_n o dX1_behind_4 rfl (q := 5) rfl ?_
      refine j_ald_n o dX1_behind_5 rfl rfl (q := 6) rfl ?_
      refine j_gf o dX1_behind_6 (jb hx) kcX1 7 (Nat.le_of_ble_eq_true rfl) q360 rfl (q := 9) rfl ?_
      refine j_gf o dX1_behind_9 (jb r1) kcX2 9 (Nat.le_of_ble_eq_true rfl) q310 rfl (q := 12) rfl ?_
      refine j_callV0 o (ctJ2_size hG _ (jmr hz5)) dX1_behind_12 q398 wdJ2_size mdJ2_size (jb hz5) (by rfl) (by rfl) rfl (Nat.le_of_ble_eq_true rfl) (Nat.le_of_ble_eq_true rfl) (by omega) (Nat.le_of_ble_eq_true rfl) (q := 15) rfl (fun v wd hpost => ?_)
      obtain ⟨rfl, rfl⟩ := hpost
      dsimp only [List.cons_append, List.nil_append, Option.toList]
      refine j_icgeF o (t := 140) dX1_behind_15 (by decide) (q := 18) rfl (nI_ge (by omega) (by omega)) ?_
      refine j_ald_n o dX1_behind_18 rfl rfl (q := 19) rfl ?_
      refine j_gf o dX1_behind_19 (jb hx) kcX1 7 (Nat.le_of_ble_eq_true rfl) q360 rfl (q := 22) rfl ?_
      refine j_gf o dX1_behind_22 (jb r1) kcX2 9 (Nat.le_of_ble_eq_true rfl) q310 rfl (q := 25) rfl ?_
      refine j_ild_n o dX1_behind_25 rfl (q := 26) rfl ?_
      refine j_callV0 o (ctJ2_get hG _ (r3.mono (fun _ => jmr)) hqb) dX1_behind_26 q466 wdJ2_get mdJ2_get (jb hz5) (by rfl) (by rfl) rfl (Nat.le_of_ble_eq_true rfl) (Nat.le_of_ble_eq_true rfl) (by omega) (Nat.le_of_ble_eq_true rfl) (q := 29) rfl (fun v wd hpost => ?_)
      obtain ⟨rfl, rfl⟩ := hpost
      dsimp only [List.cons_append, List.nil_append, Option.toList]
      refine j_castS (r := (RX4, TX4, 2)) o dX1_behind_29 q644 (jb c1) (ci := 4) rfl (q := 32) rfl ?_
      refine j_callV0 o (ctX4_all hG _ (hbR.mono (fun _ => jmr)) (fun y hy => (hER.el y hy).mono (fun _ => jmr)) (by omega) (by omega)) dX1_behind_32 q645 wdX4_all mdX4_all (jb c1) (by rfl) (by rfl) rfl (Nat.le_of_ble_eq_true rfl) (Nat.le_of_ble_eq_true rfl) (by omega) (Nat.le_of_ble_eq_true rfl) (q := 35) rfl (fun v wd hpost => ?_)
      obtain ⟨ab, wb, rfl, rfl, hAb⟩ := hpost
      dsimp only [List.cons_append, List.nil_append, Option.toList]
      refine j_ast4 o dX1_behind_35 rfl rfl (hN 4 (Nat.le_of_ble_eq_true rfl)) (q := 37) rfl ?_
      refine j_iconst o (nI 0) dX1_behind_37 (by decide) (q := 38) rfl ?_
      refine j_ist5 o dX1_behind_38 rfl (hN 5 (Nat.le_of_ble_eq_true rfl)) (q := 40) rfl ?_
      obtain ⟨m6, b6, hz6, -⟩ := hAb.r (S := wb) (fun _ h => h)
      have hAr : ALR g wb ab es := hAb.r (fun _ h => h)
      have inner : ∀ (d2 j : Nat) (vb : Value) (y6 y7 : Option Value), j + d2 = (bAt B i).1.length → bst ch sd m (alR (B.take i) ++ (bAt B i).1.take j) bg vb → J g Y [wb] (u9 + uBall F5.1 es.length (bAt B i).2.1.length) 40 [some (.ref x), some (.int (mkV m)), some vb, some (.int (nI i)), some (.ref ab), some (.int (nI j)), y6, y7] [] := by
        intro d2
        induction d2 with
        | zero =>
          intro j vb y6 y7 g1 g2
          rw [show (bAt B i).1.take j = (bAt B i).1 from List.take_of_length_le (by omega), ← alR_take (k := i) (by omega)] at g2
          refine j_ild o dX1_behind_40 rfl (q := 42) rfl ?_
          refine j_ald o dX1_behind_42 rfl rfl (q := 44) rfl ?_
          refine j_callV0 o (ctJ2_size hG _ (jwl 0 rfl hz6)) dX1_behind_44 q398 wdJ2_size mdJ2_size (jwm 0 rfl hz6) (by rfl) (by rfl) rfl (Nat.le_of_ble_eq_true rfl) (Nat.le_of_ble_eq_true rfl) (by omega) (Nat.le_of_ble_eq_true rfl) (q := 47) rfl (fun v wd hpost => ?_)
          obtain ⟨rfl, rfl⟩ := hpost
          dsimp only [List.cons_append, List.nil_append, Option.toList]
          refine j_icgeT o 134 dX1_behind_47 (by decide) (nI_le (by omega) (by omega)) ?_
          have hj : jc1 (some vb) = true := (by rcases g2 with ⟨h1, -⟩ | ⟨e, r, h1, -⟩ <;> rw [h1] <;> rfl)
          refine j_inc3 o (nI (i + 1)) dX1_behind_134 (nI_1 _) hj (q := 137) rfl ?_
          refine j_goto o 4 dX1_behind_137 (by decide) ?_
          refine j_drop ?_
          exact ih (i + 1) vb _ _ _ _ _ (by omega) g2 (by omega)
        | succ d2 ih2 =>
          intro j vb y6 y7 g1 g2
          obtain ⟨e9, he9⟩ := get_ex (xs := es) (i := j) (by omega)
          obtain ⟨r9, hr9⟩ := get_ex (xs := (bAt B i).1) (i := j) (by omega)
          have hen := hER.2 j e9 r9 he9 hr9
          have hk9 := hrows r9 (List.mem_of_getElem? hr9)
          have htk : (bAt B i).1.take (j + 1) = (bAt B i).1.take j ++ [r9] := by rw [List.take_add_one, hr9]; rfl
          have hst : ∀ (n9 : Nat) (vb2 : Value), bst ch sd m ((alR (B.take i) ++ (bAt B i).1.take j) ++ [r9]) bg vb2 → J g Y [wb] (u9 + uBall F5.1 es.length (bAt B i).2.1.length) 128 [some (.ref x), some (.int (mkV m)), some vb2, some (.int (nI i)), some (.ref ab), some (.int (nI j)), some (.ref e9), some (.int (nI n9))] [] := by
            intro n9 vb2 h
            refine j_inc5 o (nI (j + 1)) dX1_behind_128 (by first | exact nI_1 _ | exact pk_m1 _ | rfl) rfl (q := 131) rfl ?_
            refine j_goto o 40 dX1_behind_131 (by decide) ?_
            exact ih2 (j + 1) vb2 _ _ (by omega) (by rw [htk, ← List.append_assoc]; exact h)
          have yes : beh ch sd m r9.1 → J g Y [wb] (u9 + uBall F5.1 es.length (bAt B i).2.1.length) 87 [some (.ref x), some (.int (mkV m)), some vb, some (.int (nI i)), some (.ref ab), some (.int (nI j)), some (.ref e9), y7] [] := by
            intro hbeh
            refine j_iconst o (nI 1) dX1_behind_87 (by decide) (q := 88) rfl ?_
            refine j_goto o 92 dX1_behind_88 (by decide) ?_
            refine j_ist7 o dX1_behind_92 rfl (hN 7 (Nat.le_of_ble_eq_true rfl)) (q := 94) rfl ?_
            refine j_ild o dX1_behind_94 rfl (q := 96) rfl ?_
            refine j_ifeqF o (t := 128) dX1_behind_96 (by decide) (q := 99) rfl (by decide) ?_
            rcases id g2 with ⟨rfl, h2⟩ | ⟨e0, r0, rfl, h2⟩
            · refine j_ald_n o dX1_behind_99 rfl rfl (q := 100) rfl ?_
              refine j_ifnullN o 125 dX1_behind_100 (by decide) ?_
              refine j_ald o dX1_behind_125 rfl rfl (q := 127) rfl ?_
              refine j_ast2 o dX1_behind_127 rfl rfl (hN 2 (Nat.le_of_ble_eq_true rfl)) (q := 128) rfl ?_
              exact hst 1 _ (g2.new hbeh hen (fun e0 r0 h => by cases h))
            · have h0 : r0.1 < 2 ^ 31 := (by
                obtain ⟨i0, b0, q1, q2⟩ := alR_mem.mp (show r0 ∈ alR B by rcases List.mem_append.mp h2.2.1 with h | h; exact (by obtain ⟨i0, b0, q1, q2⟩ := alR_mem.mp h; exact alR_mem.mpr ⟨i0, b0, (by rw [List.getElem?_take] at q1; split at q1; exact q1; cases q1), q2⟩); exact alR_mem.mpr ⟨i, _, hB, List.mem_of_mem_take h⟩)
                have := (hI9.2 i0 b0 q1).1 r0 q2
                omega)
              refine j_ald_n o dX1_behind_99 rfl rfl (q := 100) rfl ?_
              refine j_ifnull o dX1_behind_100 (q := 103) rfl ?_
              refine j_ald_n o dX1_behind_103 rfl rfl (q := 104) rfl ?_
              refine j_gf o dX1_behind_104 (jb hx) kcX1 7 (Nat.le_of_ble_eq_true rfl) q360 rfl (q := 107) rfl ?_
              refine j_gf o dX1_behind_107 (jb r1) kcX2 8 (Nat.le_of_ble_eq_true rfl) q308 rfl (q := 110) rfl ?_
              refine j_ald o dX1_behind_110 rfl rfl (q := 112) rfl ?_
              refine j_gf o dX1_behind_112 (jb hen) kcX11 0 (Nat.le_of_ble_eq_true rfl) q447 rfl (q := 115) rfl ?_
              refine j_ald_n o dX1_behind_115 rfl rfl (q := 116) rfl ?_
              refine j_gf o dX1_behind_116 (jb h2.1) kcX11 0 (Nat.le_of_ble_eq_true rfl) q447 rfl (q := 119) rfl ?_
              refine j_callV0 o (ctX3_isAhead hG _ (jmr hh) hc hs9 hk9 h0) dX1_behind_119 q1256 wdX3_isAhead mdX3_isAhead (jb hh) (by rfl) (by rfl) rfl (Nat.le_of_ble_eq_true rfl) (Nat.le_of_ble_eq_true rfl) (by omega) (Nat.le_of_ble_eq_true rfl) (q := 122) rfl (fun v wd hpost => ?_)
              obtain ⟨nn, rfl, q1, q2, rfl⟩ := hpost
              dsimp only [List.cons_append, List.nil_append, Option.toList]
              rcases q1 with rfl | rfl
              · refine j_ifeqT o 128 dX1_behind_122 (by decide) rfl ?_
                exact hst 1 _ (bst.old h2 (fun h => by have := q2.mpr h; omega))
              · refine j_ifeqF o (t := 128) dX1_behind_122 (by decide) (q := 125) rfl (by decide) ?_
                refine j_ald o dX1_behind_125 rfl rfl (q := 127) rfl ?_
                refine j_ast2 o dX1_behind_127 rfl rfl (hN 2 (Nat.le_of_ble_eq_true rfl)) (q := 128) rfl ?_
                exact hst 1 _ (bst.newR h2 hbeh hen (q2.mp rfl))
          have no : ¬ beh ch sd m r9.1 → J g Y [wb] (u9 + uBall F5.1 es.length (bAt B i).2.1.length) 91 [some (.ref x), some (.int (mkV m)), some vb, some (.int (nI i)), some (.ref ab), some (.int (nI j)), some (.ref e9), y7] [] := by
            intro hbeh
            refine j_iconst o (nI 0) dX1_behind_91 (by decide) (q := 92) rfl ?_
            refine j_ist7 o dX1_behind_92 rfl (hN 7 (Nat.le_of_ble_eq_true rfl)) (q := 94) rfl ?_
            refine j_ild o dX1_behind_94 rfl (q := 96) rfl ?_
            refine j_ifeqT o 128 dX1_behind_96 (by decide) rfl ?_
            exact hst 0 _ (g2.no hbeh)
          refine j_ild o dX1_behind_40 rfl (q := 42) rfl ?_
          refine j_ald o dX1_behind_42 rfl rfl (q := 44) rfl ?_
          refine j_callV0 o (ctJ2_size hG _ (jwl 0 rfl hz6)) dX1_behind_44 q398 wdJ2_size mdJ2_size (jwm 0 rfl hz6) (by rfl) (by rfl) rfl (Nat.le_of_ble_eq_true rfl) (Nat.le_of_ble_eq_true rfl) (by omega) (Nat.le_of_ble_eq_true rfl) (q := 47) rfl (fun v wd hpost => ?_)
          obtain ⟨rfl, rfl⟩ := hpost
          dsimp only [List.cons_append, List.nil_append, Option.toList]
          refine j_icgeF o (t := 134) dX1_behind_47 (by decide) (q := 50) rfl (nI_ge (by omega) (by omega)) ?_
          refine j_ald o dX1_behind_50 rfl rfl (q := 52) rfl ?_
          refine j_ild o dX1_behind_52 rfl (q := 54) rfl ?_
          refine j_callV0 o (ctJ2_get hG _ (hAr.mono (fun _ hc => jwl 0 rfl hc)) he9) dX1_behind_54 q466 wdJ2_get mdJ2_get (jwm 0 rfl hz6) (by rfl) (by rfl) rfl (Nat.le_of_ble_eq_true rfl) (Nat.le_of_ble_eq_true rfl) (by omega) (Nat.le_of_ble_eq_true rfl) (q := 57) rfl (fun v wd hpost => ?_)
          obtain ⟨rfl, rfl⟩ := hpost
          dsimp only [List.cons_append, List.nil_append, Option.toList]
          refine j_castS (r := (RX11, TX11, 2)) o dX1_behind_57 q517 (jb hen) (ci := 11) rfl (q := 60) rfl ?_
          refine j_ast6 o dX1_behind_60 rfl rfl (hN 6 (Nat.le_of_ble_eq_true rfl)) (q := 62) rfl ?_
          refine j_ild_n o dX1_behind_62 rfl (q := 63) rfl ?_
          refine j_bipush o (-2) dX1_behind_63 (by decide) (q := 65) rfl ?_
          cases m with
          | none =>
            refine j_iceqT o 87 dX1_behind_65 (by decide) rfl ?_
            exact yes trivial
          | some a9 =>
            have ha9 := hm a9 rfl
            refine j_iceqF o (t := 87) dX1_behind_65 (by decide) (q := 68) rfl (by show nI a9 ≠ -2; exact nI_m2 (by omega)) ?_
            refine j_ald_n o dX1_behind_68 rfl rfl (q := 69) rfl ?_
            refine j_gf o dX1_behind_69 (jb hx) kcX1 7 (Nat.le_of_ble_eq_true rfl) q360 rfl (q := 72) rfl ?_
            refine j_gf o dX1_behind_72 (jb r1) kcX2 8 (Nat.le_of_ble_eq_true rfl) q308 rfl (q := 75) rfl ?_
            refine j_ild_n o dX1_behind_75 rfl (q := 76) rfl ?_
            refine j_ald o dX1_behind_76 rfl rfl (q := 78) rfl ?_
            refine j_gf o dX1_behind_78 (jb hen) kcX11 0 (Nat.le_of_ble_eq_true rfl) q447 rfl (q := 81) rfl ?_
            refine j_callV0 o (ctX3_isAhead hG _ (jmr hh) hc hs9 (show a9 < 2 ^ 31 by omega) hk9) dX1_behind_81 q1256 wdX3_isAhead mdX3_isAhead (jb hh) (by rfl) (by rfl) rfl (Nat.le_of_ble_eq_true rfl) (Nat.le_of_ble_eq_true rfl) (by omega) (Nat.le_of_ble_eq_true rfl) (q := 84) rfl (fun v wd hpost => ?_)
            obtain ⟨nn, rfl, q1, q2, rfl⟩ := hpost
            dsimp only [List.cons_append, List.nil_append, Option.toList]
            rcases q1 with rfl | rfl
            · refine j_ifeqT o 91 dX1_behind_84 (by decide) rfl ?_
              exact no (fun h => by have := q2.mpr h; omega)
            · refine j_ifeqF o (t := 91) dX1_behind_84 (by decide) (q := 87) rfl (by decide) ?_
              exact yes (q2.mp rfl)
      exact inner (bAt B i).1.length 0 vb _ _ (by omega) (by rw [List.take_zero, List.append_nil]; exact d2)
  refine j_null o dX1_behind_0 (q := 1) rfl ?_
  refine j_ast2 o dX1_behind_1 rfl rfl (hN 2 (Nat.le_of_ble_eq_true rfl)) (q := 2) rfl ?_
  refine j_iconst o (nI 0) dX1_behind_2 (by decide) (q := 3) rfl ?_
  refine j_ist3 o dX1_behind_3 rfl (hN 3 (Nat.le_of_ble_eq_true rfl)) (q := 4) rfl ?_
  exact loop B.length 0 .null 0 none none none none (by omega) (Or.inl ⟨rfl, fun r hr => by simp [alR] at hr⟩) (by rw [List.drop_zero]; omega)

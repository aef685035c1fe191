/-! THE J LAYER: worlds as lists of chunks of cells; one row an instruction; contracts Ctr -/
set_option maxRecDepth 100000
abbrev CL : List vw_C := [(RJ2, TJ2, 3), (RX1, TX1, 13), (RX2, TX2, 11), (RX3, TX3, 2), (RX4, TX4, 2), (RX5, TX5, 2), (RX6, TX6, 2), (RX7, TX7, 13), (RX8, TX8, 8), (RX9, TX9, 3), (RX10, TX10, 2), (RX11, TX11, 2), (RX12, TX12, 2), (RX13, TX13, 2), (RX14, TX14, 1), (RX15, TX15, 2), (RJ6, TJ6, 4), (RJ8, TJ8, 1), (RJ9, TJ9, 4), (RJ21, TJ21, 4)]
/-- the run's fixed things: the numbers of classes and fields, of array classes, the law's start, the script's cell -/
abbrev jG : Type := va_G × (Nat → ClassId) × State × Nat × (Nat → Nat)
abbrev jE : Type := Program × Launch × Env × Room × State × MethodId × Array Value × List Frame × Method × Code
abbrev jY : Type := jE × (Nat → Prop) × (State → Prop) × Nat
abbrev jS0 (g : jG) : State := g.2.2.1
abbrev jB (g : jG) : Nat := g.2.2.1.heap.size
abbrev jT (g : jG) : List (ClassId × FieldType) := [(g.2.1 0, .int), (g.2.1 1, .boolean), (g.2.1 2, .byte), (g.2.1 3, .object "java/lang/Object"), (g.2.1 4, .object "Splitpointer$Client"), (g.2.1 5, .object "java/lang/Integer")]
abbrev jad (g : jG) : Nat → Nat := g.2.2.2.2
/-- what stands at fixed places below the run's own cells: the two empty arrays, the small Integers, the digits, four Strings -/
def jKF (g : jG) (A : Nat → Prop) (U : State) (H : Heap) : Prop :=
  va_Z "java/util/ArrayList" "DEFAULTCAPACITY_EMPTY_ELEMENTDATA" "[Ljava/lang/Object;" (.ref (jad g 0)) A U H ∧
  va_Z "java/util/ArrayList" "EMPTY_ELEMENTDATA" "[Ljava/lang/Object;" (.ref (jad g 1)) A U H ∧
  va_T (.object "java/lang/Object") (jad g 0) 0 (fun _ => .null) A U H ∧
  va_T (.object "java/lang/Object") (jad g 1) 0 (fun _ => .null) A U H ∧
  va_Z "java/lang/Integer$IntegerCache" "high" "I" (.int 127) A U H ∧
  va_Z "java/lang/Integer$IntegerCache" "cache" "[Ljava/lang/Integer;" (.ref (jad g 2)) A U H ∧
  va_T (.object "java/lang/Integer") (jad g 2) 256 (fun k => .ref (jad g (10 + k))) A U H ∧
  vb_C (fun k => jad g (10 + k)) A U H ∧
  va_Z "java/lang/Integer" "DigitOnes" "[B" (.ref (jad g 3)) A U H ∧
  va_T .byte (jad g 3) 100 (fun k => .int (nI (48 + k % 10))) A U H ∧
  va_Z "java/lang/Integer" "DigitTens" "[B" (.ref (jad g 4)) A U H ∧
  va_T .byte (jad g 4) 100 (fun k => .int (nI (48 + k / 10))) A U H ∧
  va_Z "java/lang/String" "COMPACT_STRINGS" "Z" (.int 1) A U H ∧
  vk_S 4 [1, 0, 1, 1] [[45], [], [124], [32]] (fun i => jad g (300 + i)) (fun i => jad g (310 + i)) A U H ∧
  va_O "[Ljava/lang/Object;" (jad g 0) A U H ∧ va_O "[Ljava/lang/Object;" (jad g 1) A U H
theorem jKF.moved {g : jG} {A : Nat → Prop} {u U : State} {H : Heap} (hvm : u.vm.Alike U.vm) (h : jKF g A u H) : jKF g A U H := by
  obtain ⟨h1, h2, h3, h4, h5, h6, h7, h8, h9, h10, h11, h12, h13, h14, h15, h16⟩ := h
  exact ⟨h1.moved hvm, h2.moved hvm, h3.moved hvm, h4.moved hvm, h5.moved hvm, h6.moved hvm, h7.moved hvm, h8.moved hvm, h9.moved hvm, h10.moved hvm, h11.moved hvm, h12.moved hvm, h13.moved hvm, h14.moved hvm, h15.moved hvm, h16.moved hvm⟩
theorem jKF.kept {g : jG} {A : Nat → Prop} {U : State} {H H1 : Heap} (h : jKF g A U H) (hq : ∀ a : Nat, a < H.size → ¬ A a → H1[a]? = H[a]?) : jKF g A U H1 := by
  obtain ⟨h1, h2, h3, h4, h5, h6, h7, h8, h9, h10, h11, h12, h13, h14, h15, h16⟩ := h
  exact ⟨h1.kept hq, h2.kept hq, h3.kept hq, h4.kept hq, h5.kept hq, h6.kept hq, h7.kept hq, h8.kept hq, h9.kept hq, h10.kept hq, h11.kept hq, h12.kept hq, h13.kept hq, h14.kept hq, h15.kept hq, h16.kept hq⟩
theorem jKF.narrow {g : jG} {A B : Nat → Prop} {U : State} {H : Heap} (h : jKF g A U H) (hq : ∀ q, B q → A q) : jKF g B U H := by
  obtain ⟨h1, h2, h3, h4, h5, h6, h7, h8, h9, h10, h11, h12, h13, h14, h15, h16⟩ := h
  exact ⟨h1.narrow hq, h2.narrow hq, h3.narrow hq, h4.narrow hq, h5.narrow hq, h6.narrow hq, h7.narrow hq, h8.narrow hq, h9.narrow hq, h10.narrow hq, h11.narrow hq, h12.narrow hq, h13.narrow hq, h14.narrow hq, h15.narrow hq, h16.narrow hq⟩
/-- what the tables alone say: the Strings' entries, the two class objects -/
def jKR (g : jG) (U : State) : Prop :=
  vk_R "Splitpointer" 311 "-" (jad g 300) U ∧ vk_R "Splitpointer" 316 "" (jad g 301) U ∧ vk_R "Splitpointer" 318 "|" (jad g 302) U ∧ vk_R "Splitpointer" 324 " " (jad g 303) U ∧
  vk_R "SplitpointerModel" 271 "-" (jad g 300) U ∧ vk_R "SplitpointerModel" 277 "" (jad g 301) U ∧ vk_R "SplitpointerModel" 260 "|" (jad g 302) U ∧ vk_R "SplitpointerModel" 262 " " (jad g 303) U ∧
  va_Mi "java/util/ArrayList" (jad g 5) U ∧ va_Mi "[Ljava/lang/Object;" (jad g 6) U
theorem jKR.warm {g : jG} {s U : State} (hW : s.WarmedH U.vm) (h : jKR g s) : jKR g U := by
  obtain ⟨h1, h2, h3, h4, h5, h6, h7, h8, h9, h10⟩ := h
  exact ⟨h1.warm hW, h2.warm hW, h3.warm hW, h4.warm hW, h5.warm hW, h6.warm hW, h7.warm hW, h8.warm hW, h9.moved hW.alike, h10.moved hW.alike⟩
def GS (l : Launch) (g : jG) : Prop := l.stackTraces = false ∧ va_K g.1 CL (jT g) (jS0 g) ∧ (∀ w ∈ lw_tbl, w.before #[Value.ref g.2.2.2.1] (jS0 g) = true) ∧ (Jvm.Cond.and given_1 narrow_1).before #[Value.ref g.2.2.2.1] (jS0 g) = true ∧ g.2.2.2.1 < jB g ∧
  jKF g (fun q => jB g ≤ q) (jS0 g) (jS0 g).heap ∧ jKR g (jS0 g) ∧ jad g 0 ≠ jad g 1 ∧ jad g 5 ≠ jad g 6
abbrev jR (lev U : Nat) : Room := { frames := lev, cells := U, slots := 12 * U, locals := 64 * lev }
abbrev yX (Y : jY) : jE := Y.1
abbrev yA (Y : jY) : Nat → Prop := Y.2.1
abbrev yQ (Y : jY) : State → Prop := Y.2.2.1
abbrev yN (Y : jY) : Nat := Y.2.2.2
abbrev yP (Y : jY) : Program := Y.1.1
abbrev yL (Y : jY) : Launch := Y.1.2.1
abbrev yE (Y : jY) : Env := Y.1.2.2.1
abbrev yR (Y : jY) : Room := Y.1.2.2.2.1
abbrev yS (Y : jY) : State := Y.1.2.2.2.2.1
abbrev yM (Y : jY) : MethodId := Y.1.2.2.2.2.2.1
abbrev yV (Y : jY) : Array Value := Y.1.2.2.2.2.2.2.1
abbrev yB (Y : jY) : List Frame := Y.1.2.2.2.2.2.2.2.1
abbrev yH (Y : jY) : Method := Y.1.2.2.2.2.2.2.2.2.1
abbrev yC (Y : jY) : Code := Y.1.2.2.2.2.2.2.2.2.2
/-- the locals as a list: place i holds v, or nothing is known -/
def jlv : Nat → List (Option Value) → List (Nat × Value)
  | _, [] => []
  | i, none :: L => jlv (i + 1) L
  | i, some v :: L => (i, v) :: jlv (i + 1) L
def jW (g : jG) (Y : jY) (wss : List va_W) (H : Heap) (locs : List Loc) : Prop := va_P g.1 CL wss.flatten H ∧ va_D (yA Y) wss.flatten ∧ va_S (yA Y) (yS Y).heap H locs
abbrev jWW (Y : jY) (H : Heap) (locs : List Loc) (u : Nat) (G : JFrame) : Prop := W (yP Y) (yL Y) (yE Y) (yR Y) (yS Y) (yM Y) (yV Y) (yB Y) (yH Y) (yC Y) H locs u (12 * u) (yQ Y) G
def J (g : jG) (Y : jY) (wss : List va_W) (u pc : Nat) (L : List (Option Value)) (st : List Value) : Prop :=
  ∀ (H : Heap) (locs : List Loc) (ls : Array Slot), jW g Y wss H locs → lv_has ls (yN Y) (jlv 0 L) → jWW Y H locs u (F0 (yM Y) pc ls st)
/-- what holds all through a method's body -/
def jOk (g : jG) (Y : jY) (bg : va_W) (own : String) (cc : ByteArray) (lev U : Nat) : Prop :=
  (yP Y).tables.exec = Jvm.exec ∧ (yC Y).code = cc ∧ (yC Y).maxLocals = yN Y ∧ (yS Y).vm.findClass own = some (yM Y).cls ∧ (∀ w ∈ lw_all, w.before (yV Y) (yS Y) = true) ∧
  GS (yL Y) g ∧ (jS0 g).WarmedH (yS Y).vm ∧ (yH Y).locks = false ∧ (∀ q, (yS Y).heap.size ≤ q → yA Y q) ∧ (∀ q, yA Y q → jB g ≤ q) ∧
  (∀ c ∈ bg, va_at g.1 CL c (yS Y).heap ∧ ¬ yA Y c.1) ∧ (∀ q, q < jB g → (yS Y).heap[q]? = (jS0 g).heap[q]?) ∧
  lev ≤ (yR Y).frames ∧ 64 * lev ≤ (yR Y).locals ∧ U ≤ (yR Y).cells ∧ 12 * U ≤ (yR Y).slots
section JOK
variable {g : jG} {Y : jY} {bg : va_W} {own : String} {cc : ByteArray} {lev U : Nat}
theorem jOk.ex (o : jOk g Y bg own cc lev U) : (yP Y).tables.exec = Jvm.exec := o.1
theorem jOk.co (o : jOk g Y bg own cc lev U) : (yC Y).code = cc := o.2.1
theorem jOk.ml (o : jOk g Y bg own cc lev U) : (yC Y).maxLocals = yN Y := o.2.2.1
theorem jOk.ow (o : jOk g Y bg own cc lev U) : (yS Y).vm.findClass own = some (yM Y).cls := o.2.2.2.1
theorem jOk.wd (o : jOk g Y bg own cc lev U) : ∀ w ∈ lw_all, w.before (yV Y) (yS Y) = true := o.2.2.2.2.1
theorem jOk.gs (o : jOk g Y bg own cc lev U) : GS (yL Y) g := o.2.2.2.2.2.1
theorem jOk.wa (o : jOk g Y bg own cc lev U) : (jS0 g).WarmedH (yS Y).vm := o.2.2.2.2.2.2.1
theorem jOk.lo (o : jOk g Y bg own cc lev U) : (yH Y).locks = false := o.2.2.2.2.2.2.2.1
theorem jOk.a1 (o : jOk g Y bg own cc lev U) : ∀ q, (yS Y).heap.size ≤ q → yA Y q := o.2.2.2.2.2.2.2.2.1
theorem jOk.a0 (o : jOk g Y bg own cc lev U) : ∀ q, yA Y q → jB g ≤ q := o.2.2.2.2.2.2.2.2.2.1
theorem jOk.bk (o : jOk g Y bg own cc lev U) : ∀ c ∈ bg, va_at g.1 CL c (yS Y).heap ∧ ¬ yA Y c.1 := o.2.2.2.2.2.2.2.2.2.2.1
theorem jOk.be (o : jOk g Y bg own cc lev U) : ∀ q, q < jB g → (yS Y).heap[q]? = (jS0 g).heap[q]? := o.2.2.2.2.2.2.2.2.2.2.2.1
theorem jOk.rf (o : jOk g Y bg own cc lev U) : lev ≤ (yR Y).frames := o.2.2.2.2.2.2.2.2.2.2.2.2.1
theorem jOk.rl (o : jOk g Y bg own cc lev U) : 64 * lev ≤ (yR Y).locals := o.2.2.2.2.2.2.2.2.2.2.2.2.2.1
theorem jOk.rc (o : jOk g Y bg own cc lev U) : U ≤ (yR Y).cells := o.2.2.2.2.2.2.2.2.2.2.2.2.2.2.1
theorem jOk.rs (o : jOk g Y bg own cc lev U) : 12 * U ≤ (yR Y).slots := o.2.2.2.2.2.2.2.2.2.2.2.2.2.2.2
theorem jOk.ka (o : jOk g Y bg own cc lev U) : va_K g.1 CL (jT g) (yS Y) := va_K.moved o.wa.alike o.gs.2.1
/-- a word of the tables that doesn't ride in the lists -/
theorem jOk.tw (o : jOk g Y bg own cc lev U) {w : Cond} (h : w ∈ lw_tbl) (hw : w.onTables = true) : va_Nw w (jS0 g) := va_Nw.of hw (o.gs.2.2.1 w h)
theorem jOk.cast (o : jOk g Y bg own cc lev U) {C T : String} (h : Cond.castable C T ∈ lw_tbl) : va_Nw (.castable C T) (yS Y) := va_Nw.warmC o.wa (o.tw h rfl)
theorem jOk.decl (o : jOk g Y bg own cc lev U) {x : MethodName} (h : Cond.declares x ∈ lw_tbl) : va_Nw (.declares x) (yS Y) := va_Nw.warmD o.wa (o.tw h rfl)
theorem jOk.nestF (o : jOk g Y bg own cc lev U) {a : String} {i : Nat} {b n d h : String} (hh : Cond.fieldLinkNest a i b n d h ∈ lw_tbl) : va_Nw (.fieldLinkNest a i b n d h) (yS Y) := va_Nw.warmF o.wa (o.tw hh rfl)
theorem jOk.nestM (o : jOk g Y bg own cc lev U) {a : String} {i : Nat} {x : MethodName} {h : String} (hh : Cond.methodLinkNest a i x h ∈ lw_tbl) : va_Nw (.methodLinkNest a i x h) (yS Y) := va_Nw.warmM o.wa (o.tw hh rfl)
theorem jOk.over (o : jOk g Y bg own cc lev U) {C : String} (h : Cond.arrayOver (.object C) ∈ lw_tbl) : va_AO C (yS Y) := va_AO.moved o.wa.alike (va_AO.of (o.gs.2.2.1 _ h))
theorem jOk.kf (o : jOk g Y bg own cc lev U) : jKF g (yA Y) (yS Y) (yS Y).heap :=
  ((o.gs.2.2.2.2.2.1.moved o.wa.alike).kept (H1 := (yS Y).heap) (fun a ha _ => o.be a ha)).narrow o.a0
theorem jOk.kr (o : jOk g Y bg own cc lev U) : jKR g (yS Y) := o.gs.2.2.2.2.2.2.1.warm o.wa
end JOK
/-! membership and chunks -/
def jpick (wss : List va_W) (is : List Nat) : List va_W := is.filterMap fun i => wss[i]?
def jrestG : List va_W → List Nat → Nat → List va_W
  | [], _, _ => []
  | w :: ws, is, i => if is.contains i then jrestG ws is (i + 1) else w :: jrestG ws is (i + 1)
abbrev jrest (wss : List va_W) (is : List Nat) : List va_W := jrestG wss is 0
def jflat : List va_W → va_W
  | [] => []
  | [w] => w
  | w :: v :: ws => w ++ jflat (v :: ws)
theorem jflat_eq : ∀ ws : List va_W, jflat ws = ws.flatten
  | [] => rfl
  | [w] => by simp [jflat]
  | w :: v :: ws => by simp [jflat, jflat_eq (v :: ws)]
/-- a cell that may be read: of the world, of the background -/
def jM (Y : jY) (bg : va_W) (wss : List va_W) (c : Nat × va_E) : Prop := c ∈ wss.flatten ∨ c ∈ bg
theorem jw {Y : jY} {bg : va_W} {wss : List va_W} {w : va_W} {c : Nat × va_E} (k j : Nat) (h1 : wss[k]? = some w) (h2 : w[j]? = some c) : jM Y bg wss c := Or.inl (List.mem_flatten.mpr ⟨w, List.mem_of_getElem? h1, List.mem_of_getElem? h2⟩)
theorem jwm {Y : jY} {bg : va_W} {wss : List va_W} {w : va_W} {c : Nat × va_E} (k : Nat) (h1 : wss[k]? = some w) (h2 : c ∈ w) : jM Y bg wss c := Or.inl (List.mem_flatten.mpr ⟨w, List.mem_of_getElem? h1, h2⟩)
theorem jb {Y : jY} {bg : va_W} {wss : List va_W} {c : Nat × va_E} (h : c ∈ bg) : jM Y bg wss c := Or.inr h
/-- the background that a callee gets when the whole world is given for reading -/
theorem jM.all {Y : jY} {bg : va_W} {wss : List va_W} {c : Nat × va_E} (h : jM Y bg wss c) : c ∈ wss.flatten ++ bg := List.mem_append.mpr h
theorem va_P_mem {D : va_G} {cl : List vw_C} {ws : va_W} {H : Heap} : va_P D cl ws H ↔ ∀ c ∈ ws, va_at D cl c H :=
  ⟨fun h c hc => by obtain ⟨i, hi⟩ := List.getElem?_of_mem hc; exact h i c hi, fun h k q hk => h q (List.mem_of_getElem? hk)⟩
theorem va_D_iff {A : Nat → Prop} {ws : va_W} : va_D A ws ↔ (ws.map (·.1)).Nodup ∧ ∀ c ∈ ws, A c.1 := by
  constructor
  · intro h
    refine ⟨?_, fun c hc => by obtain ⟨i, hi⟩ := List.getElem?_of_mem hc; exact h.2 i c hi⟩
    rw [List.nodup_iff_pairwise_ne, List.pairwise_iff_getElem]
    intro i j hi hj hij he
    have hi' : i < ws.length := by simpa using hi
    have hj' : j < ws.length := by simpa using hj
    have e := h.1 i j ws[i] ws[j] (List.getElem?_eq_getElem hi') (List.getElem?_eq_getElem hj') (by simpa using he)
    omega
  · intro h
    refine ⟨fun i j p q hi hj he => ?_, fun k q hk => h.2 q (List.mem_of_getElem? hk)⟩
    obtain ⟨hi1, hi2⟩ := List.getElem?_eq_some_iff.mp hi
    obtain ⟨hj1, hj2⟩ := List.getElem?_eq_some_iff.mp hj
    have h1 := h.1
    rw [List.nodup_iff_pairwise_ne, List.pairwise_iff_getElem] at h1
    rcases Nat.lt_trichotomy i j with g | g | g
    · exact absurd (by rw [List.getElem_map, List.getElem_map, hi2, hj2]; exact he) (h1 i j (by simpa using hi1) (by simpa using hj1) g)
    · exact g
    · exact absurd (by rw [List.getElem_map, List.getElem_map, hi2, hj2]; exact he.symm) (h1 j i (by simpa using hj1) (by simpa using hi1) g)
theorem va_P_perm {D : va_G} {cl : List vw_C} {ws ws' : va_W} {H : Heap} (h : va_P D cl ws H) (p : ws.Perm ws') : va_P D cl ws' H := va_P_mem.mpr fun c hc => va_P_mem.mp h c (p.mem_iff.mpr hc)
theorem va_D_perm {A : Nat → Prop} {ws ws' : va_W} (h : va_D A ws) (p : ws.Perm ws') : va_D A ws' := va_D_iff.mpr ⟨((p.map (·.1)).nodup_iff).mp (va_D_iff.mp h).1, fun c hc => (va_D_iff.mp h).2 c (p.mem_iff.mpr hc)⟩
theorem jpr : ∀ (wss : List va_W) (is : List Nat) (o : Nat), va_nd is = true → (∀ i ∈ is, o ≤ i ∧ i < o + wss.length) → wss.Perm ((is.filterMap fun i => if i < o then none else wss[i - o]?) ++ jrestG wss is o) := by
  intro wss
  induction wss with
  | nil =>
    intro is o _ h
    cases is with
    | nil => exact List.Perm.refl _
    | cons a l => have := h a List.mem_cons_self; simp at this; omega
  | cons w ws ih =>
    intro is o hn h
    have key : ∀ l : List Nat, va_nd l = true → (∀ i ∈ l, o ≤ i ∧ i < o + (w :: ws).length) →
        (l.filterMap fun i => if i < o then none else (w :: ws)[i - o]?).Perm ((if l.contains o then [w] else []) ++ ((l.filter (fun i => !(i == o))).filterMap fun i => if i < o + 1 then none else ws[i - (o + 1)]?)) := by
      intro l
      induction l with
      | nil => intro _ _; exact List.Perm.refl _
      | cons a l il =>
        intro hl hb
        simp only [va_nd, Bool.and_eq_true, decide_eq_true_eq] at hl
        have hb1 := hb a List.mem_cons_self
        have r := il hl.2 (fun i hi => hb i (List.mem_cons_of_mem _ hi))
        by_cases ha : a = o
        · subst ha
          have hc : l.contains a = false := by simpa using hl.1
          rw [hc] at r
          simp only [Nat.lt_irrefl, if_false, Nat.sub_self, List.filterMap_cons, List.getElem?_cons_zero, List.contains_cons, BEq.rfl, Bool.true_or, if_true, List.filter_cons, Bool.not_true, Bool.false_eq_true] at r ⊢
          exact List.Perm.cons _ r
        · have h1 : ¬ a < o := by omega
          have h2 : ¬ a < o + 1 := by omega
          have h3 : a - o = (a - (o + 1)) + 1 := by omega
          have h4 : (o == a) = false := by simpa using fun q => ha q.symm
          have h5 : (a == o) = false := by simpa using ha
          obtain ⟨v, hv⟩ : ∃ v, ws[a - (o + 1)]? = some v := ⟨_, List.getElem?_eq_getElem (by simp only [List.length_cons] at hb1; omega)⟩
          simp only [List.filterMap_cons, if_neg h1, h3, List.getElem?_cons_succ, hv, List.contains_cons, h4, Bool.false_or, List.filter_cons, h5, Bool.not_false, if_true, if_neg h2] at r ⊢
          by_cases hc : l.contains o = true
          · rw [if_pos hc] at r ⊢
            exact (List.Perm.cons v r).trans (List.Perm.swap _ _ _)
          · rw [if_neg hc] at r ⊢
            exact List.Perm.cons v r
    have k := key is hn h
    have hn2 : va_nd (is.filter (fun i => !(i == o))) = true := by
      clear k key h ih
      induction is with
      | nil => rfl
      | cons a l il =>
        simp only [va_nd, Bool.and_eq_true, decide_eq_true_eq] at hn
        rw [List.filter_cons]
        split
        · simp only [va_nd, Bool.and_eq_true, decide_eq_true_eq]
          exact ⟨fun q => hn.1 (List.mem_filter.mp q).1, il hn.2⟩
        · exact il hn.2
    have hr : ∀ (ws : List va_W) (o o2 : Nat), o < o2 → jrestG ws is o2 = jrestG ws (is.filter (fun i => !(i == o))) o2 := by
      intro ws
      induction ws with
      | nil => intros; rfl
      | cons v vs iv =>
        intro o o2 ho
        have e : is.contains o2 = (is.filter (fun i => !(i == o))).contains o2 := by
          rw [Bool.eq_iff_iff, List.contains_iff_mem, List.contains_iff_mem, List.mem_filter]
          constructor
          · intro q; exact ⟨q, by simp; omega⟩
          · exact fun q => q.1
        simp only [jrestG]
        rw [← e, iv o (o2 + 1) (by omega)]
    have r := ih (is.filter (fun i => !(i == o))) (o + 1) hn2 (fun i hi => by
      obtain ⟨g1, g2⟩ := List.mem_filter.mp hi
      have := h i g1
      simp only [List.length_cons, Bool.not_eq_true', beq_eq_false_iff_ne] at this g2
      omega)
    rw [← hr ws o (o + 1) (by omega)] at r
    have c1 : jrestG (w :: ws) is o = if is.contains o then jrestG ws is (o + 1) else w :: jrestG ws is (o + 1) := rfl
    rw [c1]
    by_cases hc : is.contains o = true
    · rw [if_pos hc] at k ⊢
      exact (List.Perm.cons w r).trans ((List.Perm.append_right _ k).symm)
    · rw [if_neg hc] at k ⊢
      exact ((List.Perm.cons w r).trans List.perm_middle.symm).trans (List.Perm.append_right _ k.symm)
theorem jsplit {wss : List va_W} (is : List Nat) (hn : (va_nd is && is.all fun i => decide (i < wss.length)) = true) : wss.Perm (jpick wss is ++ jrest wss is) := by
  simp only [Bool.and_eq_true, List.all_eq_true, decide_eq_true_eq] at hn
  have h := jpr wss is 0 hn.1 (fun i hi => ⟨Nat.zero_le _, by simpa using hn.2 i hi⟩)
  simpa [jpick, jrest] using h
theorem jsplitF {wss : List va_W} (is : List Nat) (hn : (va_nd is && is.all fun i => decide (i < wss.length)) = true) : wss.flatten.Perm ((jpick wss is).flatten ++ (jrest wss is).flatten) := by
  have h := (jsplit is hn).flatten
  rwa [List.flatten_append] at h

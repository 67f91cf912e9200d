/-! THE CLASSES of the worlds, by number -/
set_option maxRecDepth 100000
/-- X6 without its outer class's field of the superclass (two fields of one name) -/
def TX6a : u_T := fun k => match k with
  | 0 => TX6 0
  | 1 => TX6 1
  | 2 => TX6 2
  | 3 => TX6 3
  | 4 => TX6 4
  | 5 => TX6 5
  | 6 => TX6 6
  | 7 => TX6 8
  | _ => TX6 9
theorem in_X6a : ∀ w ∈ u_ws RX6 TX6a 9, w ∈ lw_all := by
  intro w hw
  refine in_X6 w ?_
  obtain ⟨j, hj, rfl⟩ := List.mem_map.mp hw
  have hj := List.mem_range.mp hj
  have key : ∀ j, j < 9 → ∃ i, i < 10 ∧ TX6a j = TX6 i := by
    intro j hj
    match j, hj with
    | 0, _ => exact ⟨0, by decide, rfl⟩
    | 1, _ => exact ⟨1, by decide, rfl⟩
    | 2, _ => exact ⟨2, by decide, rfl⟩
    | 3, _ => exact ⟨3, by decide, rfl⟩
    | 4, _ => exact ⟨4, by decide, rfl⟩
    | 5, _ => exact ⟨5, by decide, rfl⟩
    | 6, _ => exact ⟨6, by decide, rfl⟩
    | 7, _ => exact ⟨8, by decide, rfl⟩
    | 8, _ => exact ⟨9, by decide, rfl⟩
    | j + 9, h => exact absurd h (by omega)
  obtain ⟨i, hi, e⟩ := key j hj
  have e2 : u_lay RX6 TX6a j = u_lay RX6 TX6 i := by unfold u_lay; rw [e]
  rw [e2]
  exact u_in_lay hi
theorem tyX6a_ok : ∀ k, k < 9 → parseFieldDescriptor (TX6a k).2.2.1 = some (tyX6 (if k < 7 then k else k + 1)) := by decide +kernel
theorem nmX6a : ∀ a, a < 9 → ∀ b, b < 9 → a ≠ b → (TX6a a).2.1 ≠ (TX6a b).2.1 := by decide +kernel
/-- X18 without its outer class's field of the superclass (two fields of one name) -/
def TX18a : u_T := fun k => match k with
  | 0 => TX18 0
  | 1 => TX18 1
  | 2 => TX18 2
  | 3 => TX18 3
  | 4 => TX18 4
  | 5 => TX18 5
  | 6 => TX18 6
  | 7 => TX18 8
  | 8 => TX18 9
  | _ => TX18 10
theorem in_X18a : ∀ w ∈ u_ws RX18 TX18a 10, w ∈ lw_all := by
  intro w hw
  refine in_X18 w ?_
  obtain ⟨j, hj, rfl⟩ := List.mem_map.mp hw
  have hj := List.mem_range.mp hj
  have key : ∀ j, j < 10 → ∃ i, i < 11 ∧ TX18a j = TX18 i := by
    intro j hj
    match j, hj with
    | 0, _ => exact ⟨0, by decide, rfl⟩
    | 1, _ => exact ⟨1, by decide, rfl⟩
    | 2, _ => exact ⟨2, by decide, rfl⟩
    | 3, _ => exact ⟨3, by decide, rfl⟩
    | 4, _ => exact ⟨4, by decide, rfl⟩
    | 5, _ => exact ⟨5, by decide, rfl⟩
    | 6, _ => exact ⟨6, by decide, rfl⟩
    | 7, _ => exact ⟨8, by decide, rfl⟩
    | 8, _ => exact ⟨9, by decide, rfl⟩
    | 9, _ => exact ⟨10, by decide, rfl⟩
    | j + 10, h => exact absurd h (by omega)
  obtain ⟨i, hi, e⟩ := key j hj
  have e2 : u_lay RX18 TX18a j = u_lay RX18 TX18 i := by unfold u_lay; rw [e]
  rw [e2]
  exact u_in_lay hi
theorem tyX18a_ok : ∀ k, k < 10 → parseFieldDescriptor (TX18a k).2.2.1 = some (tyX18 (if k < 7 then k else k + 1)) := by decide +kernel
theorem nmX18a : ∀ a, a < 10 → ∀ b, b < 10 → a ≠ b → (TX18a a).2.1 ≠ (TX18a b).2.1 := by decide +kernel
abbrev clAll : List vw_C := [(RX1, TX1, 8), (RX2, TX2, 2), (RX3, TX3, 14), (RX4, TX4, 28), (RX6, TX6a, 9), (RX6, TX6, 10), (RX7, TX7, 8), (RX8, TX8, 4), (RX9, TX9, 7), (RX10, TX10, 4), (RX11, TX11, 2), (RX13, TX13, 6), (RX14, TX14, 11), (RX15, TX15, 3), (RX16, TX16, 6), (RX17, TX17, 3), (RX18, TX18a, 10), (RX18, TX18, 11), (RX20, TX20, 1), (RX21, TX21, 3), (RX22, TX22, 2), (RJ2, TJ2, 3), (RJ3, TJ3, 3), (RJ10, TJ10, 4), (RJ11, TJ11, 4), (RJ8, TJ8, 6), (RJ19, TJ19, 6)]
/-! THE V-KIT: a judgement with an abstract heap (a map from addresses to cells), locals as a list of symbolic values, ints as Int -/
set_option maxRecDepth 100000
abbrev AH : Type := Nat → Option va_E
abbrev SV : Type := Int ⊕ Value
def zi (z : Int) : Int32 := Int32.ofInt z
def zl (z : Int) : Int64 := Int64.ofInt z
def zR (z : Int) : Prop := -2147483648 ≤ z ∧ z < 2147483648
def zv (v : SV) : Value := match v with
  | .inl z => .int (zi z)
  | .inr w => w
abbrev sref (a : Nat) : SV := .inr (.ref a)
abbrev snull : SV := .inr .null
theorem zi_toInt {z : Int} (h : zR z) : (zi z).toInt = z := Int32.toInt_ofInt_of_le (by unfold zR at h; omega) (by unfold zR at h; omega)
theorem zi_add (a b : Int) : zi a + zi b = zi (a + b) := (Int32.ofInt_add a b).symm
theorem zi_sub (a b : Int) : zi a - zi b = zi (a - b) := (Int32.ofInt_sub a b).symm
theorem zi_mul (a b : Int) : zi a * zi b = zi (a * b) := (Int32.ofInt_mul a b).symm
theorem zi_neg (a : Int) : -zi a = zi (-a) := Int32.neg_ofInt
theorem zi_eq {a b : Int} (ha : zR a) (hb : zR b) : zi a = zi b ↔ a = b := by
  rw [← Int32.toInt_inj, zi_toInt ha, zi_toInt hb]
theorem zi_lt {a b : Int} (ha : zR a) (hb : zR b) : zi a < zi b ↔ a < b := by
  rw [Int32.lt_iff_toInt_lt, zi_toInt ha, zi_toInt hb]
theorem zi_le {a b : Int} (ha : zR a) (hb : zR b) : zi a ≤ zi b ↔ a ≤ b := by
  rw [Int32.le_iff_toInt_le, zi_toInt ha, zi_toInt hb]
theorem zi_nat (n : Nat) : zi (n : Int) = nI n := Int32.ofInt_eq_ofNat
theorem zi_0 : zi 0 = 0 := rfl
theorem zR_0 : zR 0 := by unfold zR; omega
theorem zR_of (y : Int32) : zR y.toInt := by
  have h1 := y.toInt_lt
  have h2 := y.le_toInt
  unfold zR; omega
theorem zi_of (y : Int32) : zi y.toInt = y := Int32.ofInt_toInt y
theorem zi_clamp {z : Int} (h0 : 0 ≤ z) (h : z < 2147483648) : (zi z).toNatClampNeg = z.toNat := Int32.toNatClampNeg_ofInt_of_le (by omega) (by omega)
theorem zi_in {z : Int} {n : Nat} (h0 : 0 ≤ z) (h : z < n) (hn : n < 2147483648) : vp_in (zi z) n := by
  have hz : zR z := by unfold zR; omega
  rw [vp_in_iff, zi_toInt hz]
  exact ⟨h0, h⟩
theorem zi_div {a b : Int} (h0 : 0 ≤ a) (ha : zR a) (hb : 0 < b) (hb2 : zR b) : zi a / zi b = zi (a / b) := by
  obtain ⟨n, rfl⟩ := Int.eq_ofNat_of_zero_le h0
  obtain ⟨d, rfl⟩ := Int.eq_ofNat_of_zero_le (Int.le_of_lt hb)
  unfold zR at ha hb2
  rw [zi_nat, zi_nat, pk_div (by omega) (by omega) (by omega), ← zi_nat]
  rfl
theorem zi_rem {a b : Int} (h0 : 0 ≤ a) (ha : zR a) (hb : 0 < b) (hb2 : zR b) : zi a - zi a / zi b * zi b = zi (a % b) := by
  obtain ⟨n, rfl⟩ := Int.eq_ofNat_of_zero_le h0
  obtain ⟨d, rfl⟩ := Int.eq_ofNat_of_zero_le (Int.le_of_lt hb)
  unfold zR at ha hb2
  rw [zi_nat, zi_nat, pk_rem (by omega) (by omega) (by omega), ← zi_nat]
  rfl
/-! the fixed context -/
abbrev XT : Type := Program × Launch × Env × Room × State × MethodId × Array Value × List Frame × Method × Code
abbrev xp (X : XT) : Program := X.1
abbrev xl (X : XT) : Launch := X.2.1
abbrev xe (X : XT) : Env := X.2.2.1
abbrev xR (X : XT) : Room := X.2.2.2.1
abbrev xs (X : XT) : State := X.2.2.2.2.1
abbrev xm (X : XT) : MethodId := X.2.2.2.2.2.1
abbrev xa (X : XT) : Array Value := X.2.2.2.2.2.2.1
abbrev xb (X : XT) : List Frame := X.2.2.2.2.2.2.2.1
abbrev xt (X : XT) : Method := X.2.2.2.2.2.2.2.2.1
abbrev xc (X : XT) : Code := X.2.2.2.2.2.2.2.2.2
/-- the global data: classes, array classes (0 int, 1 boolean, 2 byte, 3 long, 4 Object, 5 String), the law's start, the launch, the script -/
abbrev GT : Type := va_G × (Nat → ClassId) × State × Launch × Nat × Nat × (Nat → Int32)
abbrev gD (G : GT) : va_G := G.1
abbrev gC (G : GT) : Nat → ClassId := G.2.1
abbrev gs (G : GT) : State := G.2.2.1
abbrev gl (G : GT) : Launch := G.2.2.2.1
abbrev gb (G : GT) : Nat := G.2.2.2.2.1
abbrev gL (G : GT) : Nat := G.2.2.2.2.2.1
abbrev gx (G : GT) : Nat → Int32 := G.2.2.2.2.2.2
def gN (G : GT) : Nat := (gs G).heap.size
def gtys (G : GT) : List (ClassId × FieldType) := [(gC G 0, .int), (gC G 1, .boolean), (gC G 2, .byte), (gC G 3, .long), (gC G 4, .object "java/lang/Object"), (gC G 5, .object "java/lang/String")]
/-- the law's start: the tables' words, the premises, the classes, the script -/
def Start (G : GT) : Prop := (∀ w ∈ lw_tbl, w.before #[Value.ref (gb G)] (gs G) = true) ∧ (Jvm.Cond.and given_1 narrow_1).before #[Value.ref (gb G)] (gs G) = true ∧ va_K (gD G) clAll (gtys G) (gs G) ∧ va_X (gb G) (gL G) (gx G) (gs G) (gs G).heap ∧ gb G < gN G ∧ gL G ≤ 384 ∧ (gl G).flags = flags0
def KK (G : GT) (U : State) : Prop := Start G ∧ (gs G).WarmedH U.vm
theorem KK.warm {G : GT} {s U : State} (h : KK G s) (hW : s.WarmedH U.vm) : KK G U := ⟨h.1, State.WarmedH.trans h.2 hW⟩
theorem KK.K {G : GT} {U : State} (h : KK G U) : va_K (gD G) clAll (gtys G) U := va_K.moved h.2.alike h.1.2.2.1
/-- the heap holds the map; nothing of the law's start has changed -/
def Rep (G : GT) (H : Heap) (h : AH) : Prop := gN G ≤ H.size ∧ (∀ q : Nat, q < gN G → H[q]? = (gs G).heap[q]?) ∧ ∀ (a : Nat) (e : va_E), h a = some e → gN G ≤ a ∧ va_at (gD G) clAll (a, e) H
def zup (h : AH) (a : Nat) (e : va_E) : AH := fun q => if q = a then some e else h q
theorem zup_s (h : AH) (a : Nat) (e : va_E) : zup h a e a = some e := if_pos rfl
theorem zup_n {h : AH} {a q : Nat} {e : va_E} (hn : q ≠ a) : zup h a e q = h q := if_neg hn
theorem Rep.lt {G : GT} {H : Heap} {h : AH} (hR : Rep G H h) {a : Nat} {e : va_E} (ha : h a = some e) : a < H.size := (hR.2.2 a e ha).2.lt
theorem Rep.P {G : GT} {H : Heap} {h : AH} (hR : Rep G H h) {a : Nat} {e : va_E} (ha : h a = some e) : va_P (gD G) clAll [(a, e)] H := by
  intro k q hk
  have hz : k < 1 := (List.getElem?_eq_some_iff.mp hk).1
  rw [show k = 0 by omega] at hk
  cases hk
  exact (hR.2.2 a e ha).2
theorem Rep.set {G : GT} {H H1 : Heap} {h : AH} {a : Nat} {e : va_E} (hR : Rep G H h) (hz : H.size ≤ H1.size) (hN : gN G ≤ a) (he : va_at (gD G) clAll (a, e) H1) (oq : ∀ q : Nat, q < H.size → q ≠ a → H1[q]? = H[q]?) : Rep G H1 (zup h a e) := by
  refine ⟨Nat.le_trans hR.1 hz, fun q hq => ?_, fun b f hb => ?_⟩
  · rw [oq q (Nat.lt_of_lt_of_le hq hR.1) (by omega)]
    exact hR.2.1 q hq
  · by_cases hba : b = a
    · subst hba
      rw [zup_s] at hb
      cases hb
      exact ⟨hN, he⟩
    · rw [zup_n hba] at hb
      exact ⟨(hR.2.2 b f hb).1, (hR.2.2 b f hb).2.kept (oq b (hR.lt hb) hba)⟩
theorem Rep.sub {G : GT} {H : Heap} {h h' : AH} (hR : Rep G H h) (hs : ∀ a e, h' a = some e → h a = some e) : Rep G H h' := ⟨hR.1, hR.2.1, fun a e ha => hR.2.2 a e (hs a e ha)⟩
/-- what holds all through a method's body -/
def OKX (X : XT) (G : GT) (A : Nat → Prop) (cc : ByteArray) (nL : Nat) (own : String) (rm : Room) (ret : Option FieldType) : Prop :=
  (xp X).tables.exec = Jvm.exec ∧ (xc X).code = cc ∧ (xc X).maxLocals = nL ∧ (xs X).vm.findClass own = some (xm X).cls ∧ (∀ w ∈ lw_all, w.before (xa X) (xs X) = true) ∧ KK G (xs X) ∧ (∀ q, (xs X).heap.size ≤ q → A q) ∧ (∀ q, A q → gN G ≤ q) ∧ xR X = rm ∧ (xt X).sig.returnType = ret ∧ (xt X).locks = false ∧ xl X = gl G
section OKP
variable {X : XT} {G : GT} {A : Nat → Prop} {cc : ByteArray} {nL : Nat} {own : String} {rm : Room} {ret : Option FieldType}
theorem OKX.x (h : OKX X G A cc nL own rm ret) : (xp X).tables.exec = Jvm.exec := h.1
theorem OKX.b (h : OKX X G A cc nL own rm ret) : (xc X).code = cc := h.2.1
theorem OKX.ml (h : OKX X G A cc nL own rm ret) : (xc X).maxLocals = nL := h.2.2.1
theorem OKX.ow (h : OKX X G A cc nL own rm ret) : (xs X).vm.findClass own = some (xm X).cls := h.2.2.2.1
theorem OKX.ts (h : OKX X G A cc nL own rm ret) : ∀ w ∈ lw_all, w.before (xa X) (xs X) = true := h.2.2.2.2.1
theorem OKX.kk (h : OKX X G A cc nL own rm ret) : KK G (xs X) := h.2.2.2.2.2.1
theorem OKX.K (h : OKX X G A cc nL own rm ret) : va_K (gD G) clAll (gtys G) (xs X) := h.kk.K
theorem OKX.A1 (h : OKX X G A cc nL own rm ret) : ∀ q, (xs X).heap.size ≤ q → A q := h.2.2.2.2.2.2.1
theorem OKX.A2 (h : OKX X G A cc nL own rm ret) : ∀ q, A q → gN G ≤ q := h.2.2.2.2.2.2.2.1
theorem OKX.R (h : OKX X G A cc nL own rm ret) : xR X = rm := h.2.2.2.2.2.2.2.2.1
theorem OKX.rt (h : OKX X G A cc nL own rm ret) : (xt X).sig.returnType = ret := h.2.2.2.2.2.2.2.2.2.1
theorem OKX.locks (h : OKX X G A cc nL own rm ret) : (xt X).locks = false := h.2.2.2.2.2.2.2.2.2.2.1
theorem OKX.l (h : OKX X G A cc nL own rm ret) : xl X = gl G := h.2.2.2.2.2.2.2.2.2.2.2
end OKP
abbrev zlv (lv : List (Nat × SV)) : List (Nat × Value) := lv.map (fun q => (q.1, zv q.2))
def lk : List (Nat × SV) → Nat → Option SV
  | [], _ => none
  | q :: l, i => bif Nat.beq q.1 i then some q.2 else lk l i
theorem lk_mem : ∀ {lv : List (Nat × SV)} {i : Nat} {v : SV}, lk lv i = some v → (i, v) ∈ lv
  | [], _, _, h => by cases h
  | q :: l, i, v, h => by
    unfold lk at h
    cases hb : Nat.beq q.1 i with
    | true =>
      rw [hb, cond_true] at h
      have h1 := Nat.eq_of_beq_eq_true hb
      cases h
      subst h1
      exact List.mem_cons_self
    | false =>
      rw [hb, cond_false] at h
      exact List.mem_cons_of_mem _ (lk_mem h)
theorem lk_at {ls : Array Slot} {nL : Nat} {lv : List (Nat × SV)} (hL : lv_has ls nL (zlv lv)) {i : Nat} {v : SV} (h : lk lv i = some v) : ls[i]? = some (.val (zv v)) := hL.2.2 (i, zv v) (List.mem_map.mpr ⟨(i, v), lk_mem h, rfl⟩)
/-- a store into the locals -/
def lst (lv : List (Nat × SV)) (i : Nat) (v : SV) : List (Nat × SV) := (i, v) :: lv.filter (fun q => !(q.1 == i) && !(q.1 + 1 == i && (zv q.2).category == 2))
theorem lst_z (lv : List (Nat × SV)) (i : Nat) (v : SV) : (i, zv v) :: (zlv lv).filter (fun q => !(q.1 == i) && !(q.1 + 1 == i && q.2.category == 2)) = zlv (lst lv i v) := by
  unfold lst zlv
  rw [List.filter_map]
  rfl
theorem lv_of_sub {ls : Array Slot} {nL : Nat} {l l' : List (Nat × Value)} (h : lv_has ls nL l) (hs : ∀ q ∈ l', q ∈ l) : lv_has ls nL l' := ⟨h.1, h.2.1, fun q hq => h.2.2 q (hs q hq)⟩
def VV (X : XT) (G : GT) (A : Nat → Prop) (h0 : AH) (nL : Nat) (Q : State → Prop) (h : AH) (k n : Nat) (pc : Nat) (lv : List (Nat × SV)) (st : List SV) : Prop :=
  ∀ (H : Heap) (locs : List Loc) (ls : Array Slot), Rep G H h → va_S A (xs X).heap H locs → (∀ a, ¬ A a → h a = h0 a) → lv_has ls nL (zlv lv) → W (xp X) (xl X) (xe X) (xR X) (xs X) (xm X) (xa X) (xb X) (xt X) (xc X) H locs k n Q (F0 (xm X) pc ls (st.map zv))

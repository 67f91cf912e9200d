/-! V-CONTRACTS: a method's contract over abstract heaps; returns; calls -/
set_option maxRecDepth 100000
def yOK (y : MethodName) (np : Nat) : Prop := y.cls ≠ "java/lang/invoke/MethodHandle" ∧ y.cls ≠ "java/lang/invoke/VarHandle" ∧ (parseMethodDescriptor y.desc).map (fun d => d.parameters.length) = some np
def cP (G : GT) (A : Nat → Prop) (av : List SV) (h : AH) : Array Value → State → Prop := va_Pc (av.map zv) (fun U => KK G U ∧ Rep G U.heap h ∧ (∀ q, U.heap.size ≤ q → A q) ∧ (∀ q, A q → gN G ≤ q))
def cQ (G : GT) (A : Nat → Prop) (h : AH) (post : Option SV → AH → Prop) : Array Value → State → Outcome → State → Prop := fun _ st o t => (∃ (v : Option SV) (h1 : AH), o = .returned (v.map zv) ∧ post v h1 ∧ Rep G t.heap h1 ∧ ∀ a, ¬ A a → h1 a = h a) ∧ va_F A st t
/-- CONTRACT: from any state whose heap holds h, with the arguments av, y returns; the answer and the new map are as post says; nothing outside A has changed -/
def CC (G : GT) (y : MethodName) (cc : ByteArray) (maxL : Nat) (ret : Option FieldType) (rm : Room) (A : Nat → Prop) (av : List SV) (h : AH) (post : Option SV → AH → Prop) : Prop :=
  Met (gl G) y (ws_ y cc maxL ret) rm (cP G A av h) (cQ G A h post) rm.cells rm.slots A
abbrev XQ (X : XT) (G : GT) (A : Nat → Prop) (h : AH) (rm : Room) (post : Option SV → AH → Prop) : State → Prop := MQ (xb X) (cQ G A h post) (xa X) (xs X) rm.cells rm.slots A
theorem cP_blind (G : GT) (A : Nat → Prop) (av : List SV) (h : AH) : FrameBlind (cP G A av h) := fun a U g mk q => by
  obtain ⟨q0, hK, hR, hA⟩ := q
  exact ⟨q0, ⟨hK.1, hK.2⟩, hR, hA⟩
theorem CC.of {G : GT} {y : MethodName} {cc : ByteArray} {maxL : Nat} {ret : Option FieldType} {rm : Room} {A : Nat → Prop} {av : List SV} {h : AH} {post : Option SV → AH → Prop} (hy : plainName y.cls = true) (lv : List (Nat × SV)) (hlv : zlv lv = lv_args 0 (av.map zv)) (hlen : (lg_sl (av.map zv)).length ≤ maxL)
    (body : ∀ X : XT, (xt X).name = y.name → OKX X G A cc maxL y.cls rm ret → VV X G A h maxL (XQ X G A h rm post) h 0 0 0 lv []) : CC G y cc maxL ret rm A av h post := by
  refine Met.ofW (cc := cc) (maxL := maxL) (ret := ret) hy rfl ?_
  intro p e s m args below meth c s₁ B hml hv
  obtain ⟨rfl, hK, hR, hA1, hA2⟩ := hv
  have hts := atoms_spec (ws := ws_ y cc maxL ret) B.pre
  have hts : ∀ w ∈ lw_all, w.before _ s = true := fun w h => hts w (List.mem_cons_of_mem _ h)
  have hO : OKX (p, gl G, e, (headSpec (ws_ y cc maxL ret) rm).room, s, m, (av.map zv).toArray, below, meth, c) G A cc maxL y.cls rm ret := ⟨B.exec, B.bytes, hml, findClass_of_methodNamed B.named, hts, hK, hA1, hA2, rfl, B.returns, B.notSynchronized, rfl⟩
  have hl := lv_entry (av.map zv) (n := maxL) hlen
  rw [lg_entry_eq]
  rw [← hlv] at hl
  exact body (p, gl G, e, (headSpec (ws_ y cc maxL ret) rm).room, s, m, (av.map zv).toArray, below, meth, c) ((name_of_methodNamed B.named B.method).1) hO s.heap [] _ hR va_S.rf (fun _ _ => rfl) hl
def b2i (b : Bool) : Int := if b then 1 else 0
theorem b2i_t {p : Prop} [Decidable p] (hp : p) : b2i (decide p) = 1 := by unfold b2i; rw [decide_eq_true hp]; rfl
theorem b2i_f {p : Prop} [Decidable p] (hp : ¬ p) : b2i (decide p) = 0 := by unfold b2i; rw [decide_eq_false hp]; rfl
theorem b2i_R (b : Bool) : zR (b2i b) := by cases b <;> (unfold zR b2i; decide)
theorem b2i_c (b : Bool) : b2i b = 0 ∨ b2i b = 1 := by cases b <;> simp [b2i]
/-- an answer on the stack -/
def ocons (v : Option SV) (st : List SV) : List SV := match v with
  | none => st
  | some a => a :: st
section VRet
variable {X : XT} {G : GT} {A : Nat → Prop} {h0 : AH} {cc : ByteArray} {nL : Nat} {own : String} {rm : Room} {ret : Option FieldType} {Q : State → Prop} {h : AH} {k n : Nat} {pc : Nat} {lv : List (Nat × SV)} {st : List SV} {post : Option SV → AH → Prop}
theorem v_iret {ret : Option FieldType} (hO : OKX X G A cc nL own rm ret) {z : Int} (d : decode cc pc = .ok (.ireturn, 1)) (hrt : ret = some .int) (hk : k ≤ rm.cells) (hn : n ≤ rm.slots) (hp : post (some (.inl z)) h) : VV X G A h0 nL (XQ X G A h0 rm post) h k n pc lv [.inl z] := by
  intro H locs ls hR hS hf hL
  subst hrt
  refine W.widen hk hn ?_
  exact W.iret (v := zi z) hO.x hO.b hO.rt (fun t ht hW => ⟨⟨some (.inl z), h, rfl, hp, by rw [ht]; exact hR, hf⟩, hS.F ht⟩) hS.2.2 d hO.locks
theorem v_zret {ret : Option FieldType} (hO : OKX X G A cc nL own rm ret) {z : Int} {ty : FieldType} (d : decode cc pc = .ok (.ireturn, 1)) (hrt : ret = some ty) (hz : narrow ty (.int (zi z)) = .int (zi z)) (hk : k ≤ rm.cells) (hn : n ≤ rm.slots) (hp : post (some (.inl z)) h) : VV X G A h0 nL (XQ X G A h0 rm post) h k n pc lv [.inl z] := by
  intro H locs ls hR hS hf hL
  subst hrt
  refine W.widen hk hn ?_
  exact W.zret (v := zi z) hO.x hO.b hO.rt hz (fun t ht hW => ⟨⟨some (.inl z), h, rfl, hp, by rw [ht]; exact hR, hf⟩, hS.F ht⟩) hS.2.2 d hO.locks
theorem v_lret {ret : Option FieldType} (hO : OKX X G A cc nL own rm ret) {y : Int64} (d : decode cc pc = .ok (.lreturn, 1)) (hrt : ret = some .long) (hk : k ≤ rm.cells) (hn : n ≤ rm.slots) (hp : post (some (.inr (.long y))) h) : VV X G A h0 nL (XQ X G A h0 rm post) h k n pc lv [.inr (.long y)] := by
  intro H locs ls hR hS hf hL
  subst hrt
  refine W.widen hk hn ?_
  exact W.lret hO.x hO.b hO.rt (fun t ht hW => ⟨⟨some (.inr (.long y)), h, rfl, hp, by rw [ht]; exact hR, hf⟩, hS.F ht⟩) hS.2.2 d hO.locks
theorem v_dret {ret : Option FieldType} (hO : OKX X G A cc nL own rm ret) {y : UInt64} (d : decode cc pc = .ok (.dreturn, 1)) (hrt : ret = some .double) (hk : k ≤ rm.cells) (hn : n ≤ rm.slots) (hp : post (some (.inr (.double y))) h) : VV X G A h0 nL (XQ X G A h0 rm post) h k n pc lv [.inr (.double y)] := by
  intro H locs ls hR hS hf hL
  subst hrt
  refine W.widen hk hn ?_
  exact W.dret hO.x hO.b hO.rt (fun t ht hW => ⟨⟨some (.inr (.double y)), h, rfl, hp, by rw [ht]; exact hR, hf⟩, hS.F ht⟩) hS.2.2 d hO.locks
theorem v_fret {ret : Option FieldType} (hO : OKX X G A cc nL own rm ret) {y : UInt32} (d : decode cc pc = .ok (.freturn, 1)) (hrt : ret = some .float) (hk : k ≤ rm.cells) (hn : n ≤ rm.slots) (hp : post (some (.inr (.float y))) h) : VV X G A h0 nL (XQ X G A h0 rm post) h k n pc lv [.inr (.float y)] := by
  intro H locs ls hR hS hf hL
  subst hrt
  refine W.widen hk hn ?_
  exact W.fret hO.x hO.b hO.rt (fun t ht hW => ⟨⟨some (.inr (.float y)), h, rfl, hp, by rw [ht]; exact hR, hf⟩, hS.F ht⟩) hS.2.2 d hO.locks
theorem v_vret {ret : Option FieldType} (hO : OKX X G A cc nL own rm ret) (d : decode cc pc = .ok (.return_, 1)) (hrt : ret = none) (hk : k ≤ rm.cells) (hn : n ≤ rm.slots) (hp : post (none) h) : VV X G A h0 nL (XQ X G A h0 rm post) h k n pc lv [] := by
  intro H locs ls hR hS hf hL
  subst hrt
  refine W.widen hk hn ?_
  exact W.vret hO.x hO.b hO.rt (fun t ht hW => ⟨⟨none, h, rfl, hp, by rw [ht]; exact hR, hf⟩, hS.F ht⟩) hS.2.2 d hO.locks
theorem v_aret {rt : FieldType} {ret : Option FieldType} (hO : OKX X G A cc nL own rm ret) {r : Option Nat} (d : decode cc pc = .ok (.areturn, 1)) (hrt : ret = some rt) (ho : (∃ n, rt = .object n) ∨ ∃ t, rt = .array t) (hk : k ≤ rm.cells) (hn : n ≤ rm.slots) (hp : post (some (zr r)) h) : VV X G A h0 nL (XQ X G A h0 rm post) h k n pc lv [zr r] := by
  intro H locs ls hR hS hf hL
  subst hrt
  refine W.widen hk hn ?_
  exact W.aret (v := va_rf r) hO.x hO.b hO.rt ho (by cases r with
    | none => exact Or.inl rfl
    | some a => exact Or.inr ⟨a, rfl⟩) (fun t ht hW => ⟨⟨some (zr r), h, rfl, hp, by rw [ht]; exact hR, hf⟩, hS.F ht⟩) hS.2.2 d hO.locks
theorem nar_z {z : Int} (hz : z = 0 ∨ z = 1) : narrow .boolean (.int (zi z)) = .int (zi z) := by
  rcases hz with rfl | rfl <;> decide +kernel
end VRet
section VCall
variable {X : XT} {G : GT} {A : Nat → Prop} {h0 : AH} {cc : ByteArray} {nL : Nat} {own : String} {rm : Room} {ret : Option FieldType} {Q : State → Prop} {h : AH} {k n : Nat} {pc : Nat} {lv : List (Nat × SV)} {st : List SV}
theorem zv_rev (as st : List SV) : (as.reverse ++ st).map zv = (as.map zv).reverse ++ st.map zv := by
  rw [List.map_append, List.map_reverse]
theorem zv_cat {st : List SV} (hc : (st.map (fun v => (zv v).category)).sum ≤ 8) : ((st.map zv).map fun v => v.category).sum ≤ 8 := by
  rw [List.map_map]; exact hc
theorem Rep.none {G : GT} {H : Heap} {h : AH} (hR : Rep G H h) {q : Nat} (hq : H.size ≤ q) : h q = none := by
  cases hx : h q with
  | none => rfl
  | some e => exact absurd (hR.lt hx) (by omega)
/-- the callee's start -/
theorem cP_at {G : GT} {A A1 : Nat → Prop} {s : State} {H0 H : Heap} {locs : List Loc} {h : AH} {av : List SV} (hK : KK G s) (hR : Rep G H h) (hS : va_S A H0 H locs) (hA0 : ∀ q, H0.size ≤ q → A q) (hA2 : ∀ q, A q → gN G ≤ q) (h1 : ∀ q, A1 q → A q) (h2 : ∀ q, A q → h q = none → A1 q) : ∀ U : State, U.heap = H → s.WarmedH U.vm → cP G A1 av h (av.map zv).toArray U := fun U hU hW =>
  ⟨rfl, hK.warm hW, by rw [hU]; exact hR, fun q hq => h2 q (hA0 q (Nat.le_trans hS.1 (by rw [hU] at hq; exact hq))) (hR.none (by rw [hU] at hq; exact hq)), fun q hq => hA2 q (h1 q hq)⟩
/-- behind a call -/
theorem v_back {post : Option SV → AH → Prop} {A1 : Nat → Prop} {mc ms : Nat} {a : Array Value} {stk : List SV} (h1 : ∀ q, A1 q → A q) {k2 n2 : Nat} (hk : k + mc ≤ k2) (hn : n + ms ≤ n2)
    (kk : ∀ v h1, post v h1 → (∀ a, ¬ A1 a → h1 a = h a) → VV X G A h0 nL Q h1 k2 n2 (pc + 3) lv (ocons v st))
    (run : ∀ (H : Heap) (locs : List Loc) (ls : Array Slot), Rep G H h → va_S A (xs X).heap H locs → ls.size = nL → va_Run (xp X) (xl X) (xe X) (xR X) (xs X) (xm X) (xa X) (xb X) (xt X) (xc X) H locs k n mc ms (F0 (xm X) pc ls (stk.map zv)) (st.map zv) (cQ G A1 h post a) A1) : VV X G A h0 nL Q h k n pc lv stk := by
  intro H locs ls hR hS hf hL T hT XX
  obtain ⟨v, st0, t, T1, L, e0, XX1, hLo, e1, e2, ⟨⟨w, h2, hw, hp, hR1, hfr⟩, hz, hkp⟩, go⟩ := run H locs ls hR hS hL.1 T hT XX
  injection hw with hw
  rw [e0] at hz hkp
  have hS1 : va_S A (xs X).heap T1.heap (locs ++ L) := ⟨Nat.le_trans hS.1 (by rw [e1]; exact hz), fun q g1 g2 => by rw [e1, hkp q (Nat.lt_of_lt_of_le g1 hS.1) (fun z => g2 (h1 q z))]; exact hS.2.1 q g1 g2, fun q hq => by
      rcases List.mem_append.mp hq with g | g
      · exact hS.2.2 q g
      · exact h1 _ (hLo q g)⟩
  have hw2 : v.toList ++ st.map zv = (ocons w st).map zv := by
    rw [hw]
    cases w <;> rfl
  obtain ⟨t2, a1, b1⟩ := W.widen hk hn (kk w h2 hp hfr T1.heap (locs ++ L) ls (by rw [e1]; exact hR1) hS1 (fun a ha => (hfr a (fun z => ha (h1 a z))).trans (hf a ha)) hL) T1 rfl XX1
  refine ⟨t2, go t2 ?_, b1⟩
  show Steps _ _ _ (T1.setTop { method := xm X, pc := pc + 3, locals := ls, stack := v.toList ++ st.map zv, locked := none }) t2
  rw [hw2]
  exact a1
theorem v_callS (hO : OKX X G A cc nL own rm ret) {y : MethodName} {bytes : ByteArray} {maxL np ix : Nat} {rty : Option FieldType} {rm1 : Room} {A1 : Nat → Prop} {av : List SV} {post : Option SV → AH → Prop} {stk : List SV} (hM : CC G y bytes maxL rty rm1 A1 av h post) (hG : GoodIn lw_all (va_wsS own ix y (ws_ y bytes maxL rty))) (hd : yOK y np) (hnp : av.length = np) (hst : stk = av.reverse ++ st) (hfr : rm1.frames + 1 ≤ rm.frames) (hlo : 8 + (maxL + 11) + rm1.locals ≤ rm.locals) {k2 n2 : Nat} (hk : k + rm1.cells ≤ k2) (hk2 : k2 ≤ rm.cells) (hn : n + rm1.slots ≤ n2) (hn2 : n2 ≤ rm.slots) (d : decode cc pc = .ok (.invokestatic ix, 3)) (kk : ∀ v h1, post v h1 → (∀ a, ¬ A1 a → h1 a = h a) → VV X G A h0 nL Q h1 k2 n2 (pc + 3) lv (ocons v st)) (hc : (st.map (fun v => (zv v).category)).sum ≤ 8 := by exact Nat.le_of_ble_eq_true rfl) (h1 : ∀ q, A1 q → A q := by exact fun _ q => q) (h2 : ∀ q, A q → h q = none → A1 q := by exact fun _ q _ => q) : VV X G A h0 nL Q h k n pc lv stk := by
  refine v_back (a := ((av : List SV).map zv).toArray) h1 hk hn kk (fun H locs ls hR hS hsz => ?_)
  have hpre := cP_at (av := av) hO.kk hR hS hO.A1 hO.A2 h1 h2
  subst hst
  rw [hO.l]
  refine va_runS (As := av.map zv) ⟨hO.x, hO.b, hO.ml, hO.ow, hO.ts⟩ hM (va_cwS np hO.ts hG rfl rfl rfl hd (by rw [hO.R]; exact ⟨hfr, hlo⟩)) ⟨cP_blind G A1 _ h, hpre⟩ rfl ((List.length_map _).trans hnp) hsz ?_ (lv_room (zv_cat hc)) d ⟨by rw [hO.R]; omega, by rw [hO.R]; omega⟩
  rw [zv_rev]
theorem v_callV (hO : OKX X G A cc nL own rm ret) {y : MethodName} {bytes : ByteArray} {maxL np ix : Nat} {rty : Option FieldType} {rm1 : Room} {A1 : Nat → Prop} {b : Nat} {av : List SV} {post : Option SV → AH → Prop} {stk : List SV} {ci : Nat} {C : String} {T : u_T} {N : Nat} (hC : CP ci C T N) {fs : List SV} (hb : h b = some (eo ci fs)) (hM : CC G y bytes maxL rty rm1 A1 (sref b :: av) h post) (hG : GoodIn lw_all (wsV own ix C y (ws_ y bytes maxL rty))) (hd : yOK y np) (hyc : y.cls = C) (hnp : av.length = np) (hst : stk = av.reverse ++ sref b :: st) (hfr : rm1.frames + 1 ≤ rm.frames) (hlo : 8 + (maxL + 11) + rm1.locals ≤ rm.locals) {k2 n2 : Nat} (hk : k + rm1.cells ≤ k2) (hk2 : k2 ≤ rm.cells) (hn : n + rm1.slots ≤ n2) (hn2 : n2 ≤ rm.slots) (d : decode cc pc = .ok (.invokevirtual ix, 3)) (kk : ∀ v h1, post v h1 → (∀ a, ¬ A1 a → h1 a = h a) → VV X G A h0 nL Q h1 k2 n2 (pc + 3) lv (ocons v st)) (hc : (st.map (fun v => (zv v).category)).sum ≤ 8 := by exact Nat.le_of_ble_eq_true rfl) (h1 : ∀ q, A1 q → A q := by exact fun _ q => q) (h2 : ∀ q, A q → h q = none → A1 q := by exact fun _ q _ => q) : VV X G A h0 nL Q h k n pc lv stk := by
  refine v_back (a := (((sref b :: av) : List SV).map zv).toArray) h1 hk hn kk (fun H locs ls hR hS hsz => ?_)
  have hpre := cP_at (av := (sref b :: av)) hO.kk hR hS hO.A1 hO.A2 h1 h2
  subst hst
  rw [hO.l]
  refine va_runV (As := av.map zv) ⟨hO.x, hO.b, hO.ml, hO.ow, hO.ts⟩ hM (cwV np hO.ts hG rfl rfl rfl ⟨hyc, hd⟩ (by rw [hO.R]; exact ⟨hfr, hlo⟩)) ⟨cP_blind G A1 _ h, hR.recv hO.kk hC hb, hpre⟩ rfl ((List.length_map _).trans hnp) hsz ?_ (lv_room (zv_cat hc)) d ⟨by rw [hO.R]; omega, by rw [hO.R]; omega⟩
  rw [show (av.reverse ++ sref b :: st).map zv = (av.map zv).reverse ++ (sref b :: st).map zv from zv_rev av _]; rfl
theorem v_callI (hO : OKX X G A cc nL own rm ret) {y : MethodName} {bytes : ByteArray} {maxL np ix : Nat} {rm1 : Room} {A1 : Nat → Prop} {b : Nat} {av : List SV} {post : Option SV → AH → Prop} {stk : List SV} (hM : CC G y bytes maxL none rm1 A1 (sref b :: av) h post) (hG : GoodIn lw_all (ws_ y bytes maxL none)) (q1 : Cond.initialized y.cls ∈ lw_all) (q2 : Cond.methodLink own ix y ∈ lw_all) (q3 : Cond.instanceMethod y ∈ lw_all) (hyi : y.name = "<init>") (hd : yOK y np) (hnp : av.length = np) (hst : stk = av.reverse ++ sref b :: st) (hfr : rm1.frames + 1 ≤ rm.frames) (hlo : 8 + (maxL + 11) + rm1.locals ≤ rm.locals) {k2 n2 : Nat} (hk : k + rm1.cells ≤ k2) (hk2 : k2 ≤ rm.cells) (hn : n + rm1.slots ≤ n2) (hn2 : n2 ≤ rm.slots) (d : decode cc pc = .ok (.invokespecial ix, 3)) (kk : ∀ v h1, post v h1 → (∀ a, ¬ A1 a → h1 a = h a) → VV X G A h0 nL Q h1 k2 n2 (pc + 3) lv (ocons v st)) (hc : (st.map (fun v => (zv v).category)).sum ≤ 8 := by exact Nat.le_of_ble_eq_true rfl) (h1 : ∀ q, A1 q → A q := by exact fun _ q => q) (h2 : ∀ q, A q → h q = none → A1 q := by exact fun _ q _ => q) : VV X G A h0 nL Q h k n pc lv stk := by
  refine v_back (a := (((sref b :: av) : List SV).map zv).toArray) h1 hk hn kk (fun H locs ls hR hS hsz => ?_)
  have hpre := cP_at (av := (sref b :: av)) hO.kk hR hS hO.A1 hO.A2 h1 h2
  subst hst
  rw [hO.l]
  refine va_runI (As := av.map zv) ⟨hO.x, hO.b, hO.ml, hO.ow, hO.ts⟩ hM (cwI np hO.ts hG rfl rfl rfl (hO.ts _ q1) (hO.ts _ q2) (hO.ts _ q3) hyi hd (by rw [hO.R]; exact ⟨hfr, hlo⟩)) ⟨cP_blind G A1 _ h, hpre⟩ rfl ((List.length_map _).trans hnp) hsz ?_ (lv_room (zv_cat hc)) d ⟨by rw [hO.R]; omega, by rw [hO.R]; omega⟩
  rw [show (av.reverse ++ sref b :: st).map zv = (av.map zv).reverse ++ (sref b :: st).map zv from zv_rev av _]; rfl
end VCall
section VIfb
variable {X : XT} {G : GT} {A : Nat → Prop} {h0 : AH} {cc : ByteArray} {nL : Nat} {own : String} {rm : Room} {ret : Option FieldType} {Q : State → Prop} {h : AH} {k n : Nat} {pc : Nat} {lv : List (Nat × SV)} {st : List SV}
theorem v_ifb_eq {p : Prop} [Decidable p] (hO : OKX X G A cc nL own rm ret) {off : Int} {tgt : Nat} (d : decode cc pc = .ok (.ifCond .eq off, 3)) (ht : (pc : Int) + off = (tgt : Int)) (kt : ¬ p → VV X G A h0 nL Q h k n tgt lv st) (kf : p → VV X G A h0 nL Q h k n (pc + 3) lv st) : VV X G A h0 nL Q h k n pc lv (.inl (b2i (decide p)) :: st) :=
  v_if_eq hO d ht (b2i_R _) (fun c => kt (fun hp => by rw [b2i_t hp] at c; cases c)) (fun c => kf (Classical.byContradiction fun hp => c (b2i_f hp)))
theorem v_ifb_ne {p : Prop} [Decidable p] (hO : OKX X G A cc nL own rm ret) {off : Int} {tgt : Nat} (d : decode cc pc = .ok (.ifCond .ne off, 3)) (ht : (pc : Int) + off = (tgt : Int)) (kt : p → VV X G A h0 nL Q h k n tgt lv st) (kf : ¬ p → VV X G A h0 nL Q h k n (pc + 3) lv st) : VV X G A h0 nL Q h k n pc lv (.inl (b2i (decide p)) :: st) :=
  v_if_ne hO d ht (b2i_R _) (fun c => kt (Classical.byContradiction fun hp => c (b2i_f hp))) (fun c => kf (fun hp => by rw [b2i_t hp] at c; cases c))
theorem v_ttop {z w : Int} (he : z = w) (kk : VV X G A h0 nL Q h k n pc lv (.inl w :: st)) : VV X G A h0 nL Q h k n pc lv (.inl z :: st) := by
  subst he; exact kk
theorem v_topw {z w : Int} (he : zi z = zi w) (kk : VV X G A h0 nL Q h k n pc lv (.inl w :: st)) : VV X G A h0 nL Q h k n pc lv (.inl z :: st) := by
  intro H locs ls hR hS hf hL
  have q := kk H locs ls hR hS hf hL
  show W _ _ _ _ _ _ _ _ _ _ _ _ _ _ _ (F0 _ _ _ (Value.int (zi z) :: st.map zv))
  rw [he]
  exact q
theorem v_pick {lv2 : List (Nat × SV)} (ks : List Nat) (hl : ks.filterMap (fun j => lv[j]?) = lv2) (kk : VV X G A h0 nL Q h k n pc lv2 st) : VV X G A h0 nL Q h k n pc lv st :=
  v_forget (fun q hq => by
    rw [← hl] at hq
    obtain ⟨j, -, hj⟩ := List.mem_filterMap.mp hq
    exact List.mem_of_getElem? hj) kk
/-- a loop: a state s with an invariant and a measure -/
theorem v_loop {σ : Type} (I : σ → Prop) (μ : σ → Nat) (hh : σ → AH) (lf : σ → List (Nat × SV)) (s0 : σ) (hI : I s0) (body : ∀ s, I s → (∀ s2, I s2 → μ s2 < μ s → VV X G A h0 nL Q (hh s2) k n pc (lf s2) st) → VV X G A h0 nL Q (hh s) k n pc (lf s) st) : VV X G A h0 nL Q (hh s0) k n pc (lf s0) st := by
  have key : ∀ (f : Nat) (s : σ), I s → μ s < f → VV X G A h0 nL Q (hh s) k n pc (lf s) st := by
    intro f
    induction f with
    | zero => intro s _ hm; exact absurd hm (Nat.not_lt_zero _)
    | succ f ih => intro s hs hm; exact body s hs (fun s2 hs2 hm2 => ih s2 hs2 (by omega))
  exact key _ s0 hI (Nat.lt_succ_self _)
end VIfb
/-- the first i, from i on, n at most, with p; -1 if there is none -/
def fstI (p : Int → Bool) : Nat → Int → Int
  | 0, _ => -1
  | n + 1, i => if p i = true then i else fstI p n (i + 1)
/-- how many -/
def cntI (p : Int → Bool) : Nat → Int → Int
  | 0, _ => 0
  | n + 1, i => (if p i = true then 1 else 0) + cntI p n (i + 1)
def sumI (f : Int → Int) : Nat → Int → Int
  | 0, _ => 0
  | n + 1, i => f i + sumI f n (i + 1)
def anyI (p : Int → Bool) : Nat → Int → Bool
  | 0, _ => false
  | n + 1, i => p i || anyI p n (i + 1)
/-- one by one -/
def itI {α : Type} (f : Int → α → α) : Nat → Int → α → α
  | 0, _, a => a
  | n + 1, i, a => itI f n (i + 1) (f i a)
theorem tn_0 {a b : Int} (h : b ≤ a) : (b - a).toNat = 0 := by omega
theorem tn_s {a b : Int} (h : a < b) : (b - a).toNat = (b - (a + 1)).toNat + 1 := by omega
theorem fstI_e {p : Int → Bool} {i N : Int} (h : N ≤ i) : fstI p (N - i).toNat i = -1 := by rw [tn_0 h]; rfl
theorem fstI_y {p : Int → Bool} {i N : Int} (h : i < N) (hp : p i = true) : fstI p (N - i).toNat i = i := by rw [tn_s h]; unfold fstI; rw [if_pos hp]
theorem fstI_n {p : Int → Bool} {i N : Int} (h : i < N) (hp : ¬ p i = true) : fstI p (N - i).toNat i = fstI p (N - (i + 1)).toNat (i + 1) := by rw [tn_s h]; show (if p i = true then i else _) = _; rw [if_neg hp]
theorem cntI_e {p : Int → Bool} {i N : Int} (h : N ≤ i) : cntI p (N - i).toNat i = 0 := by rw [tn_0 h]; rfl
theorem cntI_y {p : Int → Bool} {i N : Int} (h : i < N) (hp : p i = true) : cntI p (N - i).toNat i = 1 + cntI p (N - (i + 1)).toNat (i + 1) := by rw [tn_s h]; show (if p i = true then (1 : Int) else 0) + _ = _; rw [if_pos hp]
theorem cntI_n {p : Int → Bool} {i N : Int} (h : i < N) (hp : ¬ p i = true) : cntI p (N - i).toNat i = cntI p (N - (i + 1)).toNat (i + 1) := by rw [tn_s h]; show (if p i = true then (1 : Int) else 0) + _ = _; rw [if_neg hp]; omega
theorem sumI_e {f : Int → Int} {i N : Int} (h : N ≤ i) : sumI f (N - i).toNat i = 0 := by rw [tn_0 h]; rfl
theorem sumI_s {f : Int → Int} {i N : Int} (h : i < N) : sumI f (N - i).toNat i = f i + sumI f (N - (i + 1)).toNat (i + 1) := by rw [tn_s h]; rfl
theorem anyI_e {p : Int → Bool} {i N : Int} (h : N ≤ i) : anyI p (N - i).toNat i = false := by rw [tn_0 h]; rfl
theorem anyI_s {p : Int → Bool} {i N : Int} (h : i < N) : anyI p (N - i).toNat i = (p i || anyI p (N - (i + 1)).toNat (i + 1)) := by rw [tn_s h]; rfl
theorem itI_e {α : Type} {f : Int → α → α} {i N : Int} {a : α} (h : N ≤ i) : itI f (N - i).toNat i a = a := by rw [tn_0 h]; rfl
theorem itI_s {α : Type} {f : Int → α → α} {i N : Int} {a : α} (h : i < N) : itI f (N - i).toNat i a = itI f (N - (i + 1)).toNat (i + 1) (f i a) := by rw [tn_s h]; rfl
theorem cntI_le (p : Int → Bool) : ∀ (n : Nat) (i : Int), 0 ≤ cntI p n i ∧ cntI p n i ≤ n
  | 0, _ => ⟨Int.le_refl _, Int.le_refl _⟩
  | n + 1, i => by
    have h := cntI_le p n (i + 1)
    show 0 ≤ (if p i = true then (1 : Int) else 0) + cntI p n (i + 1) ∧ (if p i = true then (1 : Int) else 0) + cntI p n (i + 1) ≤ _
    split <;> omega
theorem fstI_in (p : Int → Bool) : ∀ (n : Nat) (i : Int), fstI p n i = -1 ∨ (i ≤ fstI p n i ∧ fstI p n i < i + n ∧ p (fstI p n i) = true)
  | 0, _ => Or.inl rfl
  | n + 1, i => by
    show (if p i = true then i else fstI p n (i + 1)) = -1 ∨ _
    by_cases h : p i = true
    · refine Or.inr ?_
      have e : fstI p (n + 1) i = i := if_pos h
      rw [e]
      exact ⟨Int.le_refl _, by omega, h⟩
    · have e : fstI p (n + 1) i = fstI p n (i + 1) := if_neg h
      rw [e, if_neg h]
      rcases fstI_in p n (i + 1) with q | ⟨q1, q2, q3⟩
      · exact Or.inl q
      · exact Or.inr ⟨by omega, by omega, q3⟩
theorem fstI_congr {p q : Int → Bool} : ∀ (n : Nat) (i : Int), (∀ j, i ≤ j → j < i + n → p j = q j) → fstI p n i = fstI q n i
  | 0, _, _ => rfl
  | n + 1, i, h => by
    show (if p i = true then i else _) = (if q i = true then i else _)
    rw [h i (Int.le_refl _) (by omega), fstI_congr n (i + 1) (fun j h1 h2 => h j (by omega) (by omega))]
theorem cntI_congr {p q : Int → Bool} : ∀ (n : Nat) (i : Int), (∀ j, i ≤ j → j < i + n → p j = q j) → cntI p n i = cntI q n i
  | 0, _, _ => rfl
  | n + 1, i, h => by
    show (if p i = true then (1 : Int) else 0) + _ = (if q i = true then (1 : Int) else 0) + _
    rw [h i (Int.le_refl _) (by omega), cntI_congr n (i + 1) (fun j h1 h2 => h j (by omega) (by omega))]
theorem sumI_congr {f g : Int → Int} : ∀ (n : Nat) (i : Int), (∀ j, i ≤ j → j < i + n → f j = g j) → sumI f n i = sumI g n i
  | 0, _, _ => rfl
  | n + 1, i, h => by
    show f i + _ = g i + _
    rw [h i (Int.le_refl _) (by omega), sumI_congr n (i + 1) (fun j h1 h2 => h j (by omega) (by omega))]
theorem anyI_congr {p q : Int → Bool} : ∀ (n : Nat) (i : Int), (∀ j, i ≤ j → j < i + n → p j = q j) → anyI p n i = anyI q n i
  | 0, _, _ => rfl
  | n + 1, i, h => by
    show (p i || _) = (q i || _)
    rw [h i (Int.le_refl _) (by omega), anyI_congr n (i + 1) (fun j h1 h2 => h j (by omega) (by omega))]
abbrev absI (z : Int) : Int := if z < 0 then -z else z
abbrev minI (a b : Int) : Int := if b < a then b else a
abbrev maxI (a b : Int) : Int := if a < b then b else a
section VMath
variable {X : XT} {G : GT} {A : Nat → Prop} {h0 : AH} {cc : ByteArray} {nL : Nat} {own : String} {rm : Room} {ret : Option FieldType} {Q : State → Prop} {h : AH} {k n : Nat} {pc : Nat} {lv : List (Nat × SV)} {st : List SV}
theorem zv_cat2 {st : List SV} {m c : Nat} (hc : (st.map (fun v => (zv v).category)).sum + c ≤ m) : ((st.map zv).map fun v => v.category).sum + c ≤ m := by
  rw [List.map_map]; exact hc
theorem v_mabs (hO : OKX X G A cc nL own rm ret) {ix : Nat} {a : Int} (hq : Cond.methodLink own ix Lib.Math.abs.name ∈ lw_all) (q2 : Cond.static Lib.Math.abs.name ∈ lw_all) (q3 : Cond.initialized "java/lang/Math" ∈ lw_all) (q4 : Cond.code Lib.Math.abs.name Lib.Math.abs.code 1 (some .int) ∈ lw_all) (hfr : 1 ≤ rm.frames) (hlo : (st.map (fun v => (zv v).category)).sum + 13 ≤ rm.locals) (hk : k ≤ rm.cells) (hn : n ≤ rm.slots) (ha : zR a) (d : decode cc pc = .ok (.invokestatic ix, 3)) (kk : VV X G A h0 nL Q h k n (pc + 3) lv (.inl (absI a) :: st)) : VV X G A h0 nL Q h k n pc lv (.inl a :: st) := by
  intro H locs ls hR hS hf hL
  have q := kk H locs ls hR hS hf hL
  refine va_mabs hO.x hO.b (hO.ml.trans hL.1.symm) hO.ow (hO.ts _ hq) (hO.ts _ q2) (hO.ts _ q3) (hO.ts _ q4) (by rw [hO.R]; exact hfr) (by rw [hO.R]; exact zv_cat2 hlo) (by rw [hO.R]; exact hk) (by rw [hO.R]; exact hn) d ?_
  have e : (if 0 ≤ zi a then zi a else 0 - zi a) = zi (absI a) := by
    rw [show (0 : Int32) = zi 0 from rfl]
    unfold absI
    by_cases c : a < 0
    · rw [if_pos c, if_neg (fun z => by have := (zi_le zR_0 ha).mp z; omega)]
      rw [zi_sub]
      exact congrArg zi (by omega)
    · rw [if_neg c, if_pos ((zi_le zR_0 ha).mpr (by omega))]
  rw [e]; exact q
theorem v_mmin (hO : OKX X G A cc nL own rm ret) {ix : Nat} {a b : Int} (hq : Cond.methodLink own ix Lib.Math.min.name ∈ lw_all) (q2 : Cond.static Lib.Math.min.name ∈ lw_all) (q3 : Cond.initialized "java/lang/Math" ∈ lw_all) (q4 : Cond.code Lib.Math.min.name Lib.Math.min.code 2 (some .int) ∈ lw_all) (hfr : 1 ≤ rm.frames) (hlo : (st.map (fun v => (zv v).category)).sum + 13 ≤ rm.locals) (hk : k ≤ rm.cells) (hn : n ≤ rm.slots) (ha : zR a) (hb : zR b) (d : decode cc pc = .ok (.invokestatic ix, 3)) (kk : VV X G A h0 nL Q h k n (pc + 3) lv (.inl (minI a b) :: st)) : VV X G A h0 nL Q h k n pc lv (.inl b :: .inl a :: st) := by
  intro H locs ls hR hS hf hL
  have q := kk H locs ls hR hS hf hL
  refine va_mmin hO.x hO.b (hO.ml.trans hL.1.symm) hO.ow (hO.ts _ hq) (hO.ts _ q2) (hO.ts _ q3) (hO.ts _ q4) (by rw [hO.R]; exact hfr) (by rw [hO.R]; exact zv_cat2 hlo) (by rw [hO.R]; exact hk) (by rw [hO.R]; exact hn) d ?_
  have e : (if zi b < zi a then zi b else zi a) = zi (minI a b) := by
    unfold minI
    by_cases c : b < a
    · rw [if_pos c, if_pos ((zi_lt hb ha).mpr c)]
    · rw [if_neg c, if_neg (fun z => c ((zi_lt hb ha).mp z))]
  rw [e]; exact q
theorem v_mmax (hO : OKX X G A cc nL own rm ret) {ix : Nat} {a b : Int} (hq : Cond.methodLink own ix Lib.Math.max.name ∈ lw_all) (q2 : Cond.static Lib.Math.max.name ∈ lw_all) (q3 : Cond.initialized "java/lang/Math" ∈ lw_all) (q4 : Cond.code Lib.Math.max.name Lib.Math.max.code 2 (some .int) ∈ lw_all) (hfr : 1 ≤ rm.frames) (hlo : (st.map (fun v => (zv v).category)).sum + 13 ≤ rm.locals) (hk : k ≤ rm.cells) (hn : n ≤ rm.slots) (ha : zR a) (hb : zR b) (d : decode cc pc = .ok (.invokestatic ix, 3)) (kk : VV X G A h0 nL Q h k n (pc + 3) lv (.inl (maxI a b) :: st)) : VV X G A h0 nL Q h k n pc lv (.inl b :: .inl a :: st) := by
  intro H locs ls hR hS hf hL
  have q := kk H locs ls hR hS hf hL
  refine va_mmax hO.x hO.b (hO.ml.trans hL.1.symm) hO.ow (hO.ts _ hq) (hO.ts _ q2) (hO.ts _ q3) (hO.ts _ q4) (by rw [hO.R]; exact hfr) (by rw [hO.R]; exact zv_cat2 hlo) (by rw [hO.R]; exact hk) (by rw [hO.R]; exact hn) d ?_
  have e : (if zi a < zi b then zi b else zi a) = zi (maxI a b) := by
    unfold maxI
    by_cases c : a < b
    · rw [if_pos c, if_pos ((zi_lt ha hb).mpr c)]
    · rw [if_neg c, if_neg (fun z => c ((zi_lt ha hb).mp z))]
  rw [e]; exact q
def zLR (z : Int) : Prop := -9223372036854775808 ≤ z ∧ z < 9223372036854775808
theorem zl_toInt {z : Int} (h : zLR z) : (zl z).toInt = z := Int64.toInt_ofInt_of_le (by unfold zLR at h; omega) (by unfold zLR at h; omega)
theorem zl_lt {a b : Int} (ha : zLR a) (hb : zLR b) : zl a < zl b ↔ a < b := by
  rw [Int64.lt_iff_toInt_lt, zl_toInt ha, zl_toInt hb]
theorem zl_eq {a b : Int} (ha : zLR a) (hb : zLR b) : zl a = zl b ↔ a = b := by
  rw [← Int64.toInt_inj, zl_toInt ha, zl_toInt hb]
theorem v_mminl (hO : OKX X G A cc nL own rm ret) {ix : Nat} {a b : Int} (hq : Cond.methodLink own ix Lib.MathLoose.min_long.x ∈ lw_all) (q2 : Cond.static Lib.MathLoose.min_long.x ∈ lw_all) (q3 : Cond.initialized "java/lang/Math" ∈ lw_all) (q4 : Cond.code Lib.MathLoose.min_long.x Lib.MathLoose.min_long.code 4 (some .long) ∈ lw_all) (hfr : 1 ≤ rm.frames) (hlo : (st.map (fun v => (zv v).category)).sum + 15 ≤ rm.locals) (hk : k ≤ rm.cells) (hn : n ≤ rm.slots) (ha : zLR a) (hb : zLR b) (d : decode cc pc = .ok (.invokestatic ix, 3)) (kk : VV X G A h0 nL Q h k n (pc + 3) lv (.inr (.long (zl (minI a b))) :: st)) : VV X G A h0 nL Q h k n pc lv (.inr (.long (zl b)) :: .inr (.long (zl a)) :: st) := by
  intro H locs ls hR hS hf hL
  have q := kk H locs ls hR hS hf hL
  refine va_mmin_long hO.x hO.b (hO.ml.trans hL.1.symm) hO.ow (hO.ts _ hq) (hO.ts _ q2) (hO.ts _ q3) (hO.ts _ q4) (by rw [hO.R]; exact hfr) (by rw [hO.R]; exact zv_cat2 hlo) (by rw [hO.R]; exact hk) (by rw [hO.R]; exact hn) d ?_
  have e : (if zl b < zl a then zl b else zl a) = zl (minI a b) := by
    unfold minI
    by_cases c : b < a
    · rw [if_pos c, if_pos ((zl_lt hb ha).mpr c)]
    · rw [if_neg c, if_neg (fun z => c ((zl_lt hb ha).mp z))]
  rw [e]; exact q
end VMath

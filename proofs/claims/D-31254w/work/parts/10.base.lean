set_option maxRecDepth 100000
/-! BASE: ints as Int, the classes, the facts of a launch, contracts -/
def iI (x : Int) : Int32 := Int32.ofInt x
abbrev inR (x : Int) : Prop := -2147483648 ≤ x ∧ x < 2147483648
theorem iI_add (a b : Int) : iI a + iI b = iI (a + b) := (Int32.ofInt_add ..).symm
theorem iI_sub (a b : Int) : iI a - iI b = iI (a - b) := (Int32.ofInt_sub ..).symm
theorem iI_mul (a b : Int) : iI a * iI b = iI (a * b) := (Int32.ofInt_mul ..).symm
theorem iI_neg (a : Int) : - iI a = iI (- a) := (Int32.ofInt_neg ..).symm
theorem iI_toInt {a : Int} (h : inR a) : (iI a).toInt = a := Int32.toInt_ofInt_of_le h.1 h.2
theorem iI_of (x : Int32) : ∃ a : Int, inR a ∧ x = iI a := ⟨x.toInt, ⟨Int32.le_toInt x, Int32.toInt_lt x⟩, (Int32.ofInt_toInt x).symm⟩
theorem iI_lt {a b : Int} (ha : inR a) (hb : inR b) : iI a < iI b ↔ a < b := by rw [Int32.lt_iff_toInt_lt, iI_toInt ha, iI_toInt hb]
theorem iI_le {a b : Int} (ha : inR a) (hb : inR b) : iI a ≤ iI b ↔ a ≤ b := by rw [Int32.le_iff_toInt_le, iI_toInt ha, iI_toInt hb]
theorem iI_inj {a b : Int} (ha : inR a) (hb : inR b) : iI a = iI b ↔ a = b := ⟨fun h => by rw [← iI_toInt ha, ← iI_toInt hb, h], fun h => by rw [h]⟩
theorem iI_0 : (0 : Int32) = iI 0 := rfl
theorem iI_1 : (1 : Int32) = iI 1 := rfl
theorem iI_nat (n : Nat) : iI (n : Int) = Int32.ofNat n := by
  unfold iI
  exact Int32.ofInt_eq_ofNat
theorem iI_clamp {a : Int} (h0 : 0 ≤ a) (h : a < 2147483648) : (iI a).toNatClampNeg = a.toNat := by
  rw [Int32.toNatClampNeg, iI_toInt ⟨by omega, h⟩]
theorem iI_in {a : Int} {n : Nat} (h0 : 0 ≤ a) (h : a < n) (hn : n ≤ 2147483648) : vp_in (iI a) n := by
  rw [vp_in_iff, iI_toInt ⟨by omega, by omega⟩]
  exact ⟨h0, h⟩
def bI (b : Bool) : Int := if b = true then 1 else 0
theorem bI_t : bI true = 1 := rfl
theorem bI_f : bI false = 0 := rfl
theorem bI_01 (b : Bool) : 0 ≤ bI b ∧ bI b ≤ 1 := by cases b <;> decide
theorem bI_R (b : Bool) : inR (bI b) := by cases b <;> decide
/-- the classes of the claim: X1..X35 at their number less one, ArrayList at 35 -/
abbrev zcl : List vw_C := [(RX1, TX1, 2), (RX2, TX2, 6), (RX3, TX3, 2), (RX4, TX4, 7), (RX5, TX5, 2), (RX6, TX6, 3), (RX7, TX7, 3), (RX8, TX8, 2), (RX9, TX9, 2), (RX10, TX10, 2), (RX11, TX11, 1), (RX12, TX12, 7), (RX13, TX13, 4), (RX14, TX14, 3), (RX15, TX15, 4), (RX16, TX16, 2), (RX17, TX17, 2), (RX18, TX18, 3), (RX19, TX19, 5), (RX20, TX20, 4), (RX21, TX21, 6), (RX22, TX22, 5), (RX23, TX23, 4), (RX24, TX24, 4), (RX25, TX25, 4), (RX26, TX26, 4), (RX27, TX27, 3), (RX28, TX28, 4), (RX29, TX29, 4), (RX30, TX30, 5), (RX31, TX31, 3), (RX32, TX32, 3), (RX33, TX33, 1), (RX34, TX34, 1), (RX35, TX35, 1), (RJ2, TJ2, 3)]
/-- a launch's numbers: the classes' ids and slots; the ids of int[], Object[], long[]; the address of ArrayList's empty row, the mirror of Object[] -/
abbrev zG : Type := va_G × (ClassId × ClassId × ClassId) × (Nat × Nat)
abbrev zO (G : zG) (H : Heap) (a : Nat) (ci : Nat) (fs : List Value) : Prop := va_at G.1 zcl (a, .inr (ci, fs)) H
abbrev zAI (G : zG) (H : Heap) (a n : Nat) (f : Nat → Int32) : Prop := va_at G.1 zcl (a, .inl (G.2.1.1, n, .inl f)) H
abbrev zAO (G : zG) (H : Heap) (a n : Nat) (f : Nat → Option Nat) : Prop := va_at G.1 zcl (a, .inl (G.2.1.2.1, n, .inr (.inr (.inr (.inr f))))) H
abbrev zAL (G : zG) (H : Heap) (a n : Nat) (f : Nat → Int64) : Prop := va_at G.1 zcl (a, .inl (G.2.1.2.2, n, .inr (.inl f))) H
abbrev ztys (G : zG) : List (ClassId × FieldType) := [(G.2.1.1, .int), (G.2.1.2.1, .object "java/lang/Object"), (G.2.1.2.2, .long)]
/-- the tables' words that don't ride in lw_all, and move all the same -/
def zok : Cond → Bool
  | .fieldLinkNest _ _ _ _ _ _ => true
  | .methodLinkNest _ _ _ _ => true
  | .castable _ _ => true
  | .declares _ => true
  | _ => false
theorem zok_warm {s U : State} (hW : s.WarmedH U.vm) : ∀ w : Cond, zok w = true → va_Nw w s → va_Nw w U := by
  intro w hw h
  cases w <;> first | (exact va_Nw.warmF hW h) | (exact va_Nw.warmM hW h) | (exact va_Nw.warmC hW h) | (exact va_Nw.warmD hW h) | (simp [zok] at hw)
theorem zok_tab : ∀ w : Cond, zok w = true → w.onTables = true := by
  intro w hw
  cases w <;> first | rfl | (simp [zok] at hw)
/-- the interfaces' entries: class, the interface's method, the class's own -/
abbrev zfaces : List (String × MethodName × MethodName) := [(RX5, ⟨"CheckoutDesk$Act", "on", "(LCheckoutDesk$Store;)I"⟩, ⟨RX5, "on", "(LCheckoutDesk$Store;)I"⟩), (RX17, ⟨"CheckoutDesk$Act", "on", "(LCheckoutDesk$Store;)I"⟩, ⟨RX17, "on", "(LCheckoutDesk$Store;)I"⟩), (RX18, ⟨"CheckoutDesk$Act", "on", "(LCheckoutDesk$Store;)I"⟩, ⟨RX18, "on", "(LCheckoutDesk$Store;)I"⟩), (RX19, ⟨"CheckoutDesk$Act", "on", "(LCheckoutDesk$Store;)I"⟩, ⟨RX19, "on", "(LCheckoutDesk$Store;)I"⟩), (RX20, ⟨"CheckoutDesk$Act", "on", "(LCheckoutDesk$Store;)I"⟩, ⟨RX20, "on", "(LCheckoutDesk$Store;)I"⟩), (RX21, ⟨"CheckoutDesk$Act", "on", "(LCheckoutDesk$Store;)I"⟩, ⟨RX21, "on", "(LCheckoutDesk$Store;)I"⟩), (RX22, ⟨"CheckoutDesk$Act", "on", "(LCheckoutDesk$Store;)I"⟩, ⟨RX22, "on", "(LCheckoutDesk$Store;)I"⟩), (RX23, ⟨"CheckoutDesk$Act", "on", "(LCheckoutDesk$Store;)I"⟩, ⟨RX23, "on", "(LCheckoutDesk$Store;)I"⟩), (RX24, ⟨"CheckoutDesk$Act", "on", "(LCheckoutDesk$Store;)I"⟩, ⟨RX24, "on", "(LCheckoutDesk$Store;)I"⟩), (RX25, ⟨"CheckoutDesk$Act", "on", "(LCheckoutDesk$Store;)I"⟩, ⟨RX25, "on", "(LCheckoutDesk$Store;)I"⟩), (RX26, ⟨"CheckoutDesk$Act", "on", "(LCheckoutDesk$Store;)I"⟩, ⟨RX26, "on", "(LCheckoutDesk$Store;)I"⟩), (RX27, ⟨"CheckoutDesk$Act", "on", "(LCheckoutDesk$Store;)I"⟩, ⟨RX27, "on", "(LCheckoutDesk$Store;)I"⟩), (RX28, ⟨"CheckoutDesk$Act", "on", "(LCheckoutDesk$Store;)I"⟩, ⟨RX28, "on", "(LCheckoutDesk$Store;)I"⟩), (RX29, ⟨"CheckoutDesk$Act", "on", "(LCheckoutDesk$Store;)I"⟩, ⟨RX29, "on", "(LCheckoutDesk$Store;)I"⟩), (RX30, ⟨"CheckoutDesk$Act", "on", "(LCheckoutDesk$Store;)I"⟩, ⟨RX30, "on", "(LCheckoutDesk$Store;)I"⟩), (RX31, ⟨"CheckoutDesk$Act", "on", "(LCheckoutDesk$Store;)I"⟩, ⟨RX31, "on", "(LCheckoutDesk$Store;)I"⟩), (RX6, ⟨"CheckoutDesk$Test", "fits", "(Ljava/lang/Object;)Z"⟩, ⟨RX6, "fits", "(Ljava/lang/Object;)Z"⟩), (RX7, ⟨"CheckoutDesk$Test", "fits", "(Ljava/lang/Object;)Z"⟩, ⟨RX7, "fits", "(Ljava/lang/Object;)Z"⟩), (RX8, ⟨"CheckoutDesk$Test", "fits", "(Ljava/lang/Object;)Z"⟩, ⟨RX8, "fits", "(Ljava/lang/Object;)Z"⟩), (RX9, ⟨"CheckoutDesk$Test", "fits", "(Ljava/lang/Object;)Z"⟩, ⟨RX9, "fits", "(Ljava/lang/Object;)Z"⟩), (RX32, ⟨"CheckoutDesk$Test", "fits", "(Ljava/lang/Object;)Z"⟩, ⟨RX32, "fits", "(Ljava/lang/Object;)Z"⟩), (RX33, ⟨"CheckoutDesk$Test", "fits", "(Ljava/lang/Object;)Z"⟩, ⟨RX33, "fits", "(Ljava/lang/Object;)Z"⟩), (RX34, ⟨"CheckoutDesk$Test", "fits", "(Ljava/lang/Object;)Z"⟩, ⟨RX34, "fits", "(Ljava/lang/Object;)Z"⟩), (RX35, ⟨"CheckoutDesk$Test", "fits", "(Ljava/lang/Object;)Z"⟩, ⟨RX35, "fits", "(Ljava/lang/Object;)Z"⟩), (RX12, ⟨"java/lang/Comparable", "compareTo", "(Ljava/lang/Object;)I"⟩, ⟨RX12, "compareTo", "(Ljava/lang/Object;)I"⟩)]
/-- the exceptions that a handler must pass over -/
abbrev zncs : List (String × String) := [("java/lang/IllegalArgumentException", "java/lang/IllegalStateException"), ("java/lang/IllegalArgumentException", "java/lang/IndexOutOfBoundsException"), ("java/lang/IllegalArgumentException", "java/util/NoSuchElementException"), ("java/lang/IllegalStateException", "java/lang/IllegalArgumentException"), ("java/lang/IllegalStateException", "java/lang/IndexOutOfBoundsException"), ("java/lang/IllegalStateException", "java/util/NoSuchElementException"), ("java/lang/IndexOutOfBoundsException", "java/lang/IllegalArgumentException"), ("java/lang/IndexOutOfBoundsException", "java/lang/IllegalStateException"), ("java/lang/IndexOutOfBoundsException", "java/util/NoSuchElementException"), ("java/util/NoSuchElementException", "java/lang/IllegalArgumentException"), ("java/util/NoSuchElementException", "java/lang/IllegalStateException"), ("java/util/NoSuchElementException", "java/lang/IndexOutOfBoundsException")]
/-- the statics that are read: ArrayList's empty row; Throwable's two -/
def zS (G : zG) (A : Nat → Prop) (U : State) (H : Heap) : Prop :=
  va_Z "java/util/ArrayList" "DEFAULTCAPACITY_EMPTY_ELEMENTDATA" "[Ljava/lang/Object;" (.ref G.2.2.1) A U H ∧ zAO G H G.2.2.1 0 (fun _ => none) ∧ ¬ A G.2.2.1 ∧
  vx_Zq Bundle.tN "UNASSIGNED_STACK" Bundle.steD A U H ∧ vx_Zq Bundle.tN "SUPPRESSED_SENTINEL" Bundle.listD A U H
/-- what of the launch's tables and statics every method is told at its start; A: what it may write -/
def zK (G : zG) (A : Nat → Prop) (U : State) : Prop :=
  va_K G.1 zcl (ztys G) U ∧ (∀ w ∈ lw_tbl, zok w = true → va_Nw w U) ∧ (∀ q ∈ zfaces, va_Fw q.1 q.2.1 q.2.2 U) ∧ (∀ q ∈ zncs, va_Nc q.1 q.2 U) ∧
  va_AO "java/lang/Object" U ∧ va_Mi "[Ljava/lang/Object;" G.2.2.2 U ∧ zS G A U U.heap
theorem zS.kept {G : zG} {A : Nat → Prop} {U : State} {H H1 : Heap} (h : zS G A U H) (hq : ∀ a : Nat, a < H.size → ¬ A a → H1[a]? = H[a]?) : zS G A U H1 := by
  obtain ⟨h1, h2, h3, h4, h5⟩ := h
  exact ⟨h1.kept hq, va_at.kept h2 (hq _ h2.lt h3), h3, h4.kept hq, h5.kept hq⟩
theorem zS.narrow {G : zG} {A B : Nat → Prop} {U : State} {H : Heap} (h : zS G A U H) (hAB : ∀ q, B q → A q) : zS G B U H := by
  obtain ⟨h1, h2, h3, h4, h5⟩ := h
  refine ⟨?_, h2, fun q => h3 (hAB _ q), h4.narrow hAB, h5.narrow hAB⟩
  obtain ⟨cf, kf, fi, f, a, cell, g1, g2, g3, g4, g5, g6, g7, g8⟩ := h1
  exact ⟨cf, kf, fi, f, a, cell, g1, g2, g3, g4, g5, g6, g7, fun q => g8 (hAB _ q)⟩
theorem zS.moved {G : zG} {A : Nat → Prop} {u U : State} {H : Heap} (hvm : u.vm.Alike U.vm) (h : zS G A u H) : zS G A U H := by
  obtain ⟨h1, h2, h3, h4, h5⟩ := h
  exact ⟨h1.moved hvm, h2, h3, h4.moved hvm, h5.moved hvm⟩
theorem zfaces_ok : ∀ q ∈ zfaces, q.2.1.cls ≠ "java/lang/invoke/MethodHandle" ∧ q.2.1.cls ≠ "java/lang/invoke/VarHandle" := by decide +kernel
/-- a callee's start: another state with the same machine (warmed), a heap where only what A allows has changed -/
theorem zK.call {G : zG} {A A1 : Nat → Prop} {s U : State} {H : Heap} {locs : List Loc} (h : zK G A s) (hS : va_S A s.heap H locs) (hA : ∀ q, A1 q → A q) (hH : U.heap = H) (hW : s.WarmedH U.vm) : zK G A1 U := by
  obtain ⟨h1, h2, h3, h4, h5, h6, h7⟩ := h
  have hv := hW.alike
  refine ⟨h1.moved hv, fun w hw hz => zok_warm hW w hz (h2 w hw hz), fun q hq => (h3 q hq).moved (zfaces_ok q hq) hv, fun q hq => (h4 q hq).moved hv, h5.moved hv, h6.moved hv, ?_⟩
  rw [hH]
  exact ((h7.kept hS.2.1).moved hv).narrow hA
theorem zK.same {G : zG} {A : Nat → Prop} {u U : State} (h : zK G A u) (hv : u.vm = U.vm) (hH : u.heap = U.heap) : zK G A U := by
  obtain ⟨h1, h2, h3, h4, h5, h6, h7⟩ := h
  have ha : u.vm.Alike U.vm := hv ▸ Vm.Alike.refl u.vm
  refine ⟨h1.moved ha, fun w hw hz => (h2 w hw hz).same (zok_tab w hz) hv, fun q hq => (h3 q hq).moved (zfaces_ok q hq) ha, fun q hq => (h4 q hq).moved ha, h5.moved ha, h6.moved ha, ?_⟩
  rw [← hH]
  exact h7.moved ha
def zN (H0 : Heap) : Nat → Prop := fun q => H0.size ≤ q
/-- a contract's start: the arguments, the heap, the launch -/
def zPc (G : zG) (A : Nat → Prop) (av : List Value) (H0 : Heap) : Array Value → State → Prop := fun v U => v = av.toArray ∧ U.heap = H0 ∧ zK G A U
/-- its end -/
def zQ (post : Option Value → Heap → Prop) (A : Nat → Prop) : Array Value → State → Outcome → State → Prop := fun _ st oc t => (∃ v, oc = .returned v ∧ post v t.heap) ∧ va_F A st t
/-- its throw: nothing old has changed -/
def zX (xp : String → Prop) : String → State → State → Prop := fun E st t => xp E ∧ va_F (fun q => st.heap.size ≤ q) st t
/-- CONTRACT: from the heap H0, with the arguments av: returns v with post v H1, or throws an exception of a class E with xp E -/
def zM (l : Launch) (y : MethodName) (ws : List Cond) (rm : Room) (G : zG) (A : Nat → Prop) (av : List Value) (H0 : Heap) (post : Option Value → Heap → Prop) (xp : String → Prop) : Prop :=
  vx_Met l y ws rm (zPc G A av H0) (zQ post A) (zX xp) rm.cells rm.slots A
theorem zPc_blind (G : zG) (A : Nat → Prop) (av : List Value) (H0 : Heap) : FrameBlind (zPc G A av H0) := by
  intro a U g mk h
  obtain ⟨h1, h2, h3⟩ := h
  exact ⟨h1, h2, h3.same rfl rfl⟩
theorem z_preS {G : zG} {A A1 : Nat → Prop} {s : State} {H : Heap} {locs : List Loc} {av : List Value} (hK : zK G A s) (hS : va_S A s.heap H locs) (hA : ∀ q, A1 q → A q) : PreS s H (zPc G A1 av H) av :=
  ⟨zPc_blind G A1 _ H, fun _U hU hW => ⟨rfl, hU, hK.call hS hA hU hW⟩⟩
theorem z_recv {G : zG} {A : Nat → Prop} {s : State} {H : Heap} {a ci : Nat} {fs : List Value} {q : vw_C} (hK : zK G A s) (ho : zO G H a ci fs) (hc : zcl[ci]? = some q) : ∃ cell : Cell, H[a]? = some cell ∧ cell.vm.isStatics = false ∧ s.vm.findClass q.1 = some cell.cls := by
  obtain ⟨q', h1, cell, g1, g2, g3, -⟩ := ho
  exact ⟨cell, g1, by rw [g3]; rfl, by rw [g2]; exact (hK.1.1 ci q hc).2.1⟩
theorem z_preV {G : zG} {A A1 : Nat → Prop} {s : State} {H : Heap} {locs : List Loc} {As : List Value} {C : String} {b ci : Nat} {fs : List Value} {q : vw_C} (hK : zK G A s) (hS : va_S A s.heap H locs) (hA : ∀ q, A1 q → A q) (ho : zO G H b ci fs) (hc : zcl[ci]? = some q) (hC : q.1 = C) : PreV s H C b (zPc G A1 (.ref b :: As) H) As :=
  ⟨zPc_blind G A1 _ H, hC ▸ z_recv hK ho hc, fun _U hU hW => ⟨rfl, hU, hK.call hS hA hU hW⟩⟩

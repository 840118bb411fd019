set_option maxRecDepth 100000
section ZI
variable {p : Program} {l : Launch} {e : Env} {R : Room} {s : State} {m : MethodId} {args : Array Value} {below : List Frame} {meth : Method} {c : Code} {H : Heap} {locs : List Loc} {cells slots : Nat} {Q : State → Prop}
variable {cc : ByteArray} {pc : Nat} {ls : Array Slot} {rest : List Value} {G : zG} {A : Nat → Prop} {H0 : Heap} {a : Nat}
theorem z_iadd (hexec : p.tables.exec = Jvm.exec) (hb : c.code = cc) {x y : Int} (hdg : decode cc pc = .ok (.iadd, 1)) (k : W p l e R s m args below meth c H locs cells slots Q (F0 m (pc + 1) ls (.int (iI (x + y)) :: rest))) : W p l e R s m args below meth c H locs cells slots Q (F0 m pc ls (.int (iI y) :: .int (iI x) :: rest)) :=
  lv_iadd hexec hb hdg (by rw [iI_add]; exact k)
theorem z_isub (hexec : p.tables.exec = Jvm.exec) (hb : c.code = cc) {x y : Int} (hdg : decode cc pc = .ok (.isub, 1)) (k : W p l e R s m args below meth c H locs cells slots Q (F0 m (pc + 1) ls (.int (iI (x - y)) :: rest))) : W p l e R s m args below meth c H locs cells slots Q (F0 m pc ls (.int (iI y) :: .int (iI x) :: rest)) :=
  lv_isub hexec hb hdg (by rw [iI_sub]; exact k)
theorem z_imul (hexec : p.tables.exec = Jvm.exec) (hb : c.code = cc) {x y : Int} (hdg : decode cc pc = .ok (.imul, 1)) (k : W p l e R s m args below meth c H locs cells slots Q (F0 m (pc + 1) ls (.int (iI (x * y)) :: rest))) : W p l e R s m args below meth c H locs cells slots Q (F0 m pc ls (.int (iI y) :: .int (iI x) :: rest)) :=
  lv_imul hexec hb hdg (by rw [iI_mul]; exact k)
theorem z_ineg (hexec : p.tables.exec = Jvm.exec) (hb : c.code = cc) {x : Int} (hdg : decode cc pc = .ok (.ineg, 1)) (k : W p l e R s m args below meth c H locs cells slots Q (F0 m (pc + 1) ls (.int (iI (- x)) :: rest))) : W p l e R s m args below meth c H locs cells slots Q (F0 m pc ls (.int (iI x) :: rest)) :=
  lv_ineg hexec hb hdg (by rw [iI_neg]; exact k)
/-- another word for the same number on top -/
theorem z_top {x y : Int} (h : x = y) (k : W p l e R s m args below meth c H locs cells slots Q (F0 m pc ls (.int (iI y) :: rest))) : W p l e R s m args below meth c H locs cells slots Q (F0 m pc ls (.int (iI x) :: rest)) := h ▸ k
theorem z_icmp_eq (hexec : p.tables.exec = Jvm.exec) (hb : c.code = cc) {x y : Int} {off : Int} {tgt : Nat} (hx : inR x) (hy : inR y) (hdg : decode cc pc = .ok (.if_icmp .eq off, 3)) (ht : (pc : Int) + off = (tgt : Int))
    (kt : x = y → W p l e R s m args below meth c H locs cells slots Q (F0 m tgt ls rest)) (kf : ¬ x = y → W p l e R s m args below meth c H locs cells slots Q (F0 m (pc + 3) ls rest)) : W p l e R s m args below meth c H locs cells slots Q (F0 m pc ls (.int (iI y) :: .int (iI x) :: rest)) :=
  lv_icmp_eq hexec hb hdg ht (fun h => kt ((iI_inj hx hy).mp h)) (fun h => kf (fun q => h ((iI_inj hx hy).mpr q)))
theorem z_icmp_ne (hexec : p.tables.exec = Jvm.exec) (hb : c.code = cc) {x y : Int} {off : Int} {tgt : Nat} (hx : inR x) (hy : inR y) (hdg : decode cc pc = .ok (.if_icmp .ne off, 3)) (ht : (pc : Int) + off = (tgt : Int))
    (kt : ¬ x = y → W p l e R s m args below meth c H locs cells slots Q (F0 m tgt ls rest)) (kf : x = y → W p l e R s m args below meth c H locs cells slots Q (F0 m (pc + 3) ls rest)) : W p l e R s m args below meth c H locs cells slots Q (F0 m pc ls (.int (iI y) :: .int (iI x) :: rest)) :=
  lv_icmp_ne hexec hb hdg ht (fun h => kt (fun q => h ((iI_inj hx hy).mpr q))) (fun h => kf ((iI_inj hx hy).mp h))
theorem z_icmp_lt (hexec : p.tables.exec = Jvm.exec) (hb : c.code = cc) {x y : Int} {off : Int} {tgt : Nat} (hx : inR x) (hy : inR y) (hdg : decode cc pc = .ok (.if_icmp .lt off, 3)) (ht : (pc : Int) + off = (tgt : Int))
    (kt : x < y → W p l e R s m args below meth c H locs cells slots Q (F0 m tgt ls rest)) (kf : ¬ x < y → W p l e R s m args below meth c H locs cells slots Q (F0 m (pc + 3) ls rest)) : W p l e R s m args below meth c H locs cells slots Q (F0 m pc ls (.int (iI y) :: .int (iI x) :: rest)) :=
  lv_icmp_lt hexec hb hdg ht (fun h => kt ((iI_lt hx hy).mp h)) (fun h => kf (fun q => h ((iI_lt hx hy).mpr q)))
theorem z_icmp_ge (hexec : p.tables.exec = Jvm.exec) (hb : c.code = cc) {x y : Int} {off : Int} {tgt : Nat} (hx : inR x) (hy : inR y) (hdg : decode cc pc = .ok (.if_icmp .ge off, 3)) (ht : (pc : Int) + off = (tgt : Int))
    (kt : ¬ x < y → W p l e R s m args below meth c H locs cells slots Q (F0 m tgt ls rest)) (kf : x < y → W p l e R s m args below meth c H locs cells slots Q (F0 m (pc + 3) ls rest)) : W p l e R s m args below meth c H locs cells slots Q (F0 m pc ls (.int (iI y) :: .int (iI x) :: rest)) :=
  lv_icmp_ge hexec hb hdg ht (fun h => kt (fun q => Int.not_lt.mpr ((iI_le hy hx).mp h) q)) (fun h => kf (Int.not_le.mp fun q => h ((iI_le hy hx).mpr q)))
theorem z_icmp_gt (hexec : p.tables.exec = Jvm.exec) (hb : c.code = cc) {x y : Int} {off : Int} {tgt : Nat} (hx : inR x) (hy : inR y) (hdg : decode cc pc = .ok (.if_icmp .gt off, 3)) (ht : (pc : Int) + off = (tgt : Int))
    (kt : y < x → W p l e R s m args below meth c H locs cells slots Q (F0 m tgt ls rest)) (kf : ¬ y < x → W p l e R s m args below meth c H locs cells slots Q (F0 m (pc + 3) ls rest)) : W p l e R s m args below meth c H locs cells slots Q (F0 m pc ls (.int (iI y) :: .int (iI x) :: rest)) :=
  lv_icmp_gt hexec hb hdg ht (fun h => kt ((iI_lt hy hx).mp h)) (fun h => kf (fun q => h ((iI_lt hy hx).mpr q)))
theorem z_icmp_le (hexec : p.tables.exec = Jvm.exec) (hb : c.code = cc) {x y : Int} {off : Int} {tgt : Nat} (hx : inR x) (hy : inR y) (hdg : decode cc pc = .ok (.if_icmp .le off, 3)) (ht : (pc : Int) + off = (tgt : Int))
    (kt : ¬ y < x → W p l e R s m args below meth c H locs cells slots Q (F0 m tgt ls rest)) (kf : y < x → W p l e R s m args below meth c H locs cells slots Q (F0 m (pc + 3) ls rest)) : W p l e R s m args below meth c H locs cells slots Q (F0 m pc ls (.int (iI y) :: .int (iI x) :: rest)) :=
  lv_icmp_le hexec hb hdg ht (fun h => kt (fun q => Int.not_lt.mpr ((iI_le hx hy).mp h) q)) (fun h => kf (Int.not_le.mp fun q => h ((iI_le hx hy).mpr q)))
theorem z_if_eq (hexec : p.tables.exec = Jvm.exec) (hb : c.code = cc) {x : Int} {off : Int} {tgt : Nat} (hx : inR x) (hdg : decode cc pc = .ok (.ifCond .eq off, 3)) (ht : (pc : Int) + off = (tgt : Int))
    (kt : x = 0 → W p l e R s m args below meth c H locs cells slots Q (F0 m tgt ls rest)) (kf : ¬ x = 0 → W p l e R s m args below meth c H locs cells slots Q (F0 m (pc + 3) ls rest)) : W p l e R s m args below meth c H locs cells slots Q (F0 m pc ls (.int (iI x) :: rest)) :=
  lv_if_eq hexec hb hdg ht (fun h => kt ((iI_inj hx (by decide)).mp h)) (fun h => kf (fun q => h ((iI_inj hx (by decide)).mpr q)))
theorem z_if_ne (hexec : p.tables.exec = Jvm.exec) (hb : c.code = cc) {x : Int} {off : Int} {tgt : Nat} (hx : inR x) (hdg : decode cc pc = .ok (.ifCond .ne off, 3)) (ht : (pc : Int) + off = (tgt : Int))
    (kt : ¬ x = 0 → W p l e R s m args below meth c H locs cells slots Q (F0 m tgt ls rest)) (kf : x = 0 → W p l e R s m args below meth c H locs cells slots Q (F0 m (pc + 3) ls rest)) : W p l e R s m args below meth c H locs cells slots Q (F0 m pc ls (.int (iI x) :: rest)) :=
  lv_if_ne hexec hb hdg ht (fun h => kt (fun q => h ((iI_inj hx (by decide)).mpr q))) (fun h => kf ((iI_inj hx (by decide)).mp h))
theorem z_if_lt (hexec : p.tables.exec = Jvm.exec) (hb : c.code = cc) {x : Int} {off : Int} {tgt : Nat} (hx : inR x) (hdg : decode cc pc = .ok (.ifCond .lt off, 3)) (ht : (pc : Int) + off = (tgt : Int))
    (kt : x < 0 → W p l e R s m args below meth c H locs cells slots Q (F0 m tgt ls rest)) (kf : ¬ x < 0 → W p l e R s m args below meth c H locs cells slots Q (F0 m (pc + 3) ls rest)) : W p l e R s m args below meth c H locs cells slots Q (F0 m pc ls (.int (iI x) :: rest)) :=
  lv_if_lt hexec hb hdg ht (fun h => kt ((iI_lt hx (by decide)).mp h)) (fun h => kf (fun q => h ((iI_lt hx (by decide)).mpr q)))
theorem z_if_ge (hexec : p.tables.exec = Jvm.exec) (hb : c.code = cc) {x : Int} {off : Int} {tgt : Nat} (hx : inR x) (hdg : decode cc pc = .ok (.ifCond .ge off, 3)) (ht : (pc : Int) + off = (tgt : Int))
    (kt : ¬ x < 0 → W p l e R s m args below meth c H locs cells slots Q (F0 m tgt ls rest)) (kf : x < 0 → W p l e R s m args below meth c H locs cells slots Q (F0 m (pc + 3) ls rest)) : W p l e R s m args below meth c H locs cells slots Q (F0 m pc ls (.int (iI x) :: rest)) :=
  lv_if_ge hexec hb hdg ht (fun h => kt (fun q => Int.not_lt.mpr ((iI_le (a := 0) (b := x) (by decide) hx).mp h) q)) (fun h => kf (Int.not_le.mp fun q => h ((iI_le (a := 0) (b := x) (by decide) hx).mpr q)))
theorem z_if_gt (hexec : p.tables.exec = Jvm.exec) (hb : c.code = cc) {x : Int} {off : Int} {tgt : Nat} (hx : inR x) (hdg : decode cc pc = .ok (.ifCond .gt off, 3)) (ht : (pc : Int) + off = (tgt : Int))
    (kt : 0 < x → W p l e R s m args below meth c H locs cells slots Q (F0 m tgt ls rest)) (kf : ¬ 0 < x → W p l e R s m args below meth c H locs cells slots Q (F0 m (pc + 3) ls rest)) : W p l e R s m args below meth c H locs cells slots Q (F0 m pc ls (.int (iI x) :: rest)) :=
  lv_if_gt hexec hb hdg ht (fun h => kt ((iI_lt (by decide) hx).mp h)) (fun h => kf (fun q => h ((iI_lt (by decide) hx).mpr q)))
theorem z_if_le (hexec : p.tables.exec = Jvm.exec) (hb : c.code = cc) {x : Int} {off : Int} {tgt : Nat} (hx : inR x) (hdg : decode cc pc = .ok (.ifCond .le off, 3)) (ht : (pc : Int) + off = (tgt : Int))
    (kt : ¬ 0 < x → W p l e R s m args below meth c H locs cells slots Q (F0 m tgt ls rest)) (kf : 0 < x → W p l e R s m args below meth c H locs cells slots Q (F0 m (pc + 3) ls rest)) : W p l e R s m args below meth c H locs cells slots Q (F0 m pc ls (.int (iI x) :: rest)) :=
  lv_if_le hexec hb hdg ht (fun h => kt (fun q => Int.not_lt.mpr ((iI_le (a := x) (b := 0) hx (by decide)).mp h) q)) (fun h => kf (Int.not_le.mp fun q => h ((iI_le (a := x) (b := 0) hx (by decide)).mpr q)))
/-- branches on a boolean -/
theorem z_ifb_eq (hexec : p.tables.exec = Jvm.exec) (hb : c.code = cc) {b : Bool} {off : Int} {tgt : Nat} (hdg : decode cc pc = .ok (.ifCond .eq off, 3)) (ht : (pc : Int) + off = (tgt : Int))
    (kt : b = false → W p l e R s m args below meth c H locs cells slots Q (F0 m tgt ls rest)) (kf : b = true → W p l e R s m args below meth c H locs cells slots Q (F0 m (pc + 3) ls rest)) : W p l e R s m args below meth c H locs cells slots Q (F0 m pc ls (.int (iI (bI b)) :: rest)) :=
  z_if_eq hexec hb (bI_R b) hdg ht (fun h => kt (by cases b <;> simp [bI] at h ⊢)) (fun h => kf (by cases b <;> simp [bI] at h ⊢))
theorem z_ifb_ne (hexec : p.tables.exec = Jvm.exec) (hb : c.code = cc) {b : Bool} {off : Int} {tgt : Nat} (hdg : decode cc pc = .ok (.ifCond .ne off, 3)) (ht : (pc : Int) + off = (tgt : Int))
    (kt : b = true → W p l e R s m args below meth c H locs cells slots Q (F0 m tgt ls rest)) (kf : b = false → W p l e R s m args below meth c H locs cells slots Q (F0 m (pc + 3) ls rest)) : W p l e R s m args below meth c H locs cells slots Q (F0 m pc ls (.int (iI (bI b)) :: rest)) :=
  z_if_ne hexec hb (bI_R b) hdg ht (fun h => kt (by cases b <;> simp [bI] at h ⊢)) (fun h => kf (by cases b <;> simp [bI] at h ⊢))
/-- null tests on a reference that may be null -/
theorem z_ifnull (hexec : p.tables.exec = Jvm.exec) (hb : c.code = cc) {r : Option Nat} {off : Int} {tgt : Nat} (hdg : decode cc pc = .ok (.ifnull off, 3)) (ht : (pc : Int) + off = (tgt : Int))
    (kt : r = none → W p l e R s m args below meth c H locs cells slots Q (F0 m tgt ls rest)) (kf : ∀ x, r = some x → W p l e R s m args below meth c H locs cells slots Q (F0 m (pc + 3) ls rest)) : W p l e R s m args below meth c H locs cells slots Q (F0 m pc ls (va_rf r :: rest)) := by
  cases r with
  | none => exact lv_ifnullN hexec hb hdg ht (kt rfl)
  | some x => exact lv_ifnull hexec hb hdg (kf x rfl)
theorem z_ifnonnull (hexec : p.tables.exec = Jvm.exec) (hb : c.code = cc) {r : Option Nat} {off : Int} {tgt : Nat} (hdg : decode cc pc = .ok (.ifnonnull off, 3)) (ht : (pc : Int) + off = (tgt : Int))
    (kt : ∀ x, r = some x → W p l e R s m args below meth c H locs cells slots Q (F0 m tgt ls rest)) (kf : r = none → W p l e R s m args below meth c H locs cells slots Q (F0 m (pc + 3) ls rest)) : W p l e R s m args below meth c H locs cells slots Q (F0 m pc ls (va_rf r :: rest)) := by
  cases r with
  | none => exact lv_ifnonnullN hexec hb hdg (kf rfl)
  | some x => exact lv_ifnonnull hexec hb hdg ht (kt x rfl)
/-- a place where paths meet -/
theorem z_join {pc2 nL : Nat} {lv : List (Nat × Value)} {st2 : List Value} {g : JFrame} (hS : va_S A H0 H locs) (k1 : (∀ (locs : List Loc) (ls : Array Slot), va_S A H0 H locs → lv_has ls nL lv → W p l e R s m args below meth c H locs cells slots Q (F0 m pc2 ls st2)) → W p l e R s m args below meth c H locs cells slots Q g) (k2 : ∀ (locs : List Loc) (ls : Array Slot), va_S A H0 H locs → lv_has ls nL lv → W p l e R s m args below meth c H locs cells slots Q (F0 m pc2 ls st2)) : W p l e R s m args below meth c H locs cells slots Q g := k1 k2
theorem z_cast (hexec : p.tables.exec = Jvm.exec) (hb : c.code = cc) (hts : ∀ w ∈ lw_all, w.before args s = true) {own C nm : String} {index ci : Nat} {fs : List Value} {q : vw_C} (hown : s.vm.findClass own = some m.cls) (hlink : (Cond.classLink own index nm) ∈ lw_all) (hK : zK G A s) (ho : zO G H a ci fs) (hc : zcl[ci]? = some q) (hC : q.1 = C) (hw : (Cond.castable C nm) ∈ lw_tbl) (hdg : decode cc pc = .ok (.checkcast index, 3))
    (k : W p l e R s m args below meth c H locs cells slots Q (F0 m (pc + 3) ls (.ref a :: rest))) : W p l e R s m args below meth c H locs cells slots Q (F0 m pc ls (.ref a :: rest)) :=
  va_castY hexec hb hown (hts _ hlink) (hK.2.1 _ hw rfl) (hC ▸ z_recv hK ho hc) hdg k
end ZI
section ZC
variable {p : Program} {l : Launch} {e : Env} {R : Room} {s : State} {m : MethodId} {args : Array Value} {below : List Frame} {meth : Method} {c : Code} {H : Heap} {locs : List Loc} {cells slots : Nat} {Q : State → Prop}
variable {cc : ByteArray} {pc : Nat} {ls : Array Slot} {rest st0 : List Value} {G : zG} {A A0 A1 : Nat → Prop} {H0 : Heap} {a : Nat} {mc ms : Nat} {post : Option Value → Heap → Prop} {xp xp0 : String → Prop} {av : Array Value}
/-- behind a call that may throw -/
theorem z_call (hr : vx_Run p l e R s m args below meth c H locs cells slots mc ms (F0 m pc ls st0) rest (zQ post A1 av) (zX xp) A1) (hS : va_S A0 H0 H locs) (hA : ∀ q, A1 q → A0 q)
    (kx : ∀ (E : String) (ce : Cell) (q9 : Addr) (H1 : Heap) (locs1 : List Loc), xp E → H.size ≤ H1.size → (∀ q : Nat, q < H.size → H1[q]? = H[q]?) → va_S A0 H0 H1 locs1 → H1[q9]? = some ce → ce.vm = .none → s.vm.findClass E = some ce.cls → vx_W p l e R s m args below meth c H1 locs1 (cells + mc) (slots + ms) Q (F0 m pc ls rest) q9)
    (kk : ∀ (v : Option Value) (H1 : Heap) (locs1 : List Loc), post v H1 → H.size ≤ H1.size → (∀ q : Nat, q < H.size → ¬ A1 q → H1[q]? = H[q]?) → va_S A0 H0 H1 locs1 → W p l e R s m args below meth c H1 locs1 (cells + mc) (slots + ms) Q (F0 m (pc + 3) ls (v.toList ++ rest))) : W p l e R s m args below meth c H locs cells slots Q (F0 m pc ls st0) := by
  intro T hT X
  rcases hr T hT X with ⟨v, st₀, t, T', L, h0, X', hL, e1, e2, ⟨⟨v', hv, hp⟩, hF⟩, st⟩ | ⟨q, st₀, t, T', L, E, ce, h0, X', hL, e1, e2, ⟨hp, hF⟩, hce, hcv, hcl, st⟩
  · cases hv
    obtain ⟨k1, k2, k3⟩ := vx_keep h0 e1 hS (fun q _ h => hA q h) hA hL hF
    obtain ⟨t2, a1, b1⟩ := kk v T'.heap (locs ++ L) (by rw [e1]; exact hp) k1 k2 k3 T' rfl X'
    exact ⟨t2, st t2 a1, b1⟩
  · have hF' : va_F (fun q => H.size ≤ q) st₀ t := by rw [← h0]; exact hF
    obtain ⟨k1, k2, k3⟩ := vx_keep h0 e1 hS (A1 := fun q => H.size ≤ q) (fun q h1 h2 => absurd h2 (Nat.not_le.mpr h1)) hA hL hF'
    obtain ⟨t2, a1, b1⟩ := kx E ce q T'.heap (locs ++ L) hp k1 (fun q h => k2 q h (Nat.not_le.mpr h)) k3 (by rw [e1]; exact hce) hcv hcl T' rfl X'
    exact ⟨t2, st.trans a1, b1⟩
theorem z_call5 (hr : vx_Run5 p l e R s m args below meth c H locs cells slots mc ms (F0 m pc ls st0) rest (zQ post A1 av) (zX xp) A1) (hS : va_S A0 H0 H locs) (hA : ∀ q, A1 q → A0 q)
    (kx : ∀ (E : String) (ce : Cell) (q9 : Addr) (H1 : Heap) (locs1 : List Loc), xp E → H.size ≤ H1.size → (∀ q : Nat, q < H.size → H1[q]? = H[q]?) → va_S A0 H0 H1 locs1 → H1[q9]? = some ce → ce.vm = .none → s.vm.findClass E = some ce.cls → vx_W p l e R s m args below meth c H1 locs1 (cells + mc) (slots + ms) Q (F0 m pc ls rest) q9)
    (kk : ∀ (v : Option Value) (H1 : Heap) (locs1 : List Loc), post v H1 → H.size ≤ H1.size → (∀ q : Nat, q < H.size → ¬ A1 q → H1[q]? = H[q]?) → va_S A0 H0 H1 locs1 → W p l e R s m args below meth c H1 locs1 (cells + mc) (slots + ms) Q (F0 m (pc + 5) ls (v.toList ++ rest))) : W p l e R s m args below meth c H locs cells slots Q (F0 m pc ls st0) := by
  intro T hT X
  rcases hr T hT X with ⟨v, st₀, t, T', L, h0, X', hL, e1, e2, ⟨⟨v', hv, hp⟩, hF⟩, st⟩ | ⟨q, st₀, t, T', L, E, ce, h0, X', hL, e1, e2, ⟨hp, hF⟩, hce, hcv, hcl, st⟩
  · cases hv
    obtain ⟨k1, k2, k3⟩ := vx_keep h0 e1 hS (fun q _ h => hA q h) hA hL hF
    obtain ⟨t2, a1, b1⟩ := kk v T'.heap (locs ++ L) (by rw [e1]; exact hp) k1 k2 k3 T' rfl X'
    exact ⟨t2, st t2 a1, b1⟩
  · have hF' : va_F (fun q => H.size ≤ q) st₀ t := by rw [← h0]; exact hF
    obtain ⟨k1, k2, k3⟩ := vx_keep h0 e1 hS (A1 := fun q => H.size ≤ q) (fun q h1 h2 => absurd h2 (Nat.not_le.mpr h1)) hA hL hF'
    obtain ⟨t2, a1, b1⟩ := kx E ce q T'.heap (locs ++ L) hp k1 (fun q h => k2 q h (Nat.not_le.mpr h)) k3 (by rw [e1]; exact hce) hcv hcl T' rfl X'
    exact ⟨t2, st.trans a1, b1⟩
/-- behind a call that doesn't throw -/
theorem z_call0 (hr : vx_Run p l e R s m args below meth c H locs cells slots mc ms (F0 m pc ls st0) rest (zQ post A1 av) (zX (fun _ => False)) A1) (hS : va_S A0 H0 H locs) (hA : ∀ q, A1 q → A0 q)
    (kk : ∀ (v : Option Value) (H1 : Heap) (locs1 : List Loc), post v H1 → H.size ≤ H1.size → (∀ q : Nat, q < H.size → ¬ A1 q → H1[q]? = H[q]?) → va_S A0 H0 H1 locs1 → W p l e R s m args below meth c H1 locs1 (cells + mc) (slots + ms) Q (F0 m (pc + 3) ls (v.toList ++ rest))) : W p l e R s m args below meth c H locs cells slots Q (F0 m pc ls st0) :=
  z_call hr hS hA (fun _ _ _ _ _ h => h.elim) kk
/-- behind a call whose throw goes on to the caller -/
theorem z_callP {rest2 : List Value} {mc0 ms0 : Nat} {Qc : Array Value → State → Outcome → State → Prop} (hr : vx_Run p l e R s m args below meth c H locs cells slots mc ms (F0 m pc ls st0) rest (zQ post A1 av) (zX xp) A1) (hS : va_S A0 s.heap H locs) (hA : ∀ q, A1 q → A0 q)
    (hN : ∀ q : Nat, q < s.heap.size → H[q]? = s.heap[q]?) (htab : ∀ x ∈ c.exceptionTable.toList, False) (hlocks : meth.locks = false) (hxp : ∀ E, xp E → xp0 E) (hc : cells + mc ≤ mc0) (hs : slots + ms ≤ ms0)
    (kk : ∀ (v : Option Value) (H1 : Heap) (locs1 : List Loc), post v H1 → H.size ≤ H1.size → (∀ q : Nat, q < H.size → ¬ A1 q → H1[q]? = H[q]?) → va_S A0 s.heap H1 locs1 → W p l e R s m args below meth c H1 locs1 (cells + mc) (slots + ms) (vx_MQ below Qc (zX xp0) args s mc0 ms0 A0) (F0 m (pc + 3) ls (v.toList ++ rest))) : W p l e R s m args below meth c H locs cells slots (vx_MQ below Qc (zX xp0) args s mc0 ms0 A0) (F0 m pc ls st0) :=
  z_call hr hS hA (fun E ce q9 H1 locs1 hx h1 h2 h3 h4 h5 h6 => vx_out (fun x hx9 => (htab x hx9).elim) hlocks h4 h5 h6 (fun t ht _ => ⟨hxp E hx, by rw [ht]; exact Nat.le_trans hS.1 h1, fun q hq _ => by rw [ht, h2 q (Nat.lt_of_lt_of_le hq hS.1), hN q hq]⟩) h3.2.2 hc hs) kk
theorem z_call5P {mc0 ms0 : Nat} {Qc : Array Value → State → Outcome → State → Prop} (hr : vx_Run5 p l e R s m args below meth c H locs cells slots mc ms (F0 m pc ls st0) rest (zQ post A1 av) (zX xp) A1) (hS : va_S A0 s.heap H locs) (hA : ∀ q, A1 q → A0 q)
    (hN : ∀ q : Nat, q < s.heap.size → H[q]? = s.heap[q]?) (htab : ∀ x ∈ c.exceptionTable.toList, False) (hlocks : meth.locks = false) (hxp : ∀ E, xp E → xp0 E) (hc : cells + mc ≤ mc0) (hs : slots + ms ≤ ms0)
    (kk : ∀ (v : Option Value) (H1 : Heap) (locs1 : List Loc), post v H1 → H.size ≤ H1.size → (∀ q : Nat, q < H.size → ¬ A1 q → H1[q]? = H[q]?) → va_S A0 s.heap H1 locs1 → W p l e R s m args below meth c H1 locs1 (cells + mc) (slots + ms) (vx_MQ below Qc (zX xp0) args s mc0 ms0 A0) (F0 m (pc + 5) ls (v.toList ++ rest))) : W p l e R s m args below meth c H locs cells slots (vx_MQ below Qc (zX xp0) args s mc0 ms0 A0) (F0 m pc ls st0) :=
  z_call5 hr hS hA (fun E ce q9 H1 locs1 hx h1 h2 h3 h4 h5 h6 => vx_out (fun x hx9 => (htab x hx9).elim) hlocks h4 h5 h6 (fun t ht _ => ⟨hxp E hx, by rw [ht]; exact Nat.le_trans hS.1 h1, fun q hq _ => by rw [ht, h2 q (Nat.lt_of_lt_of_le hq hS.1), hN q hq]⟩) h3.2.2 hc hs) kk
/-- the ends -/
theorem z_iret {ty : FieldType} {v : Int32} {mc0 ms0 : Nat} (hexec : p.tables.exec = Jvm.exec) (hb : c.code = cc) (hr : meth.sig.returnType = some ty) (hn : narrow ty (.int v) = .int v) (hlocks : meth.locks = false) (hS : va_S A s.heap H locs) (hp : post (some (.int v)) H) (hc : cells ≤ mc0) (hs : slots ≤ ms0) (hdg : decode cc pc = .ok (.ireturn, 1)) : W p l e R s m args below meth c H locs cells slots (vx_MQ below (zQ post A) (zX xp0) args s mc0 ms0 A) (F0 m pc ls [.int v]) :=
  W.widen hc hs (vx_ret (W.zret hexec hb hr hn (fun t ht _ => ⟨⟨_, rfl, by rw [ht]; exact hp⟩, hS.F ht⟩) hS.2.2 hdg hlocks))
theorem z_vret {mc0 ms0 : Nat} (hexec : p.tables.exec = Jvm.exec) (hb : c.code = cc) (hr : meth.sig.returnType = none) (hlocks : meth.locks = false) (hS : va_S A s.heap H locs) (hp : post none H) (hc : cells ≤ mc0) (hs : slots ≤ ms0) (hdg : decode cc pc = .ok (.return_, 1)) : W p l e R s m args below meth c H locs cells slots (vx_MQ below (zQ post A) (zX xp0) args s mc0 ms0 A) (F0 m pc ls []) :=
  W.widen hc hs (vx_ret (W.vret hexec hb hr (fun t ht _ => ⟨⟨_, rfl, by rw [ht]; exact hp⟩, hS.F ht⟩) hS.2.2 hdg hlocks))
theorem z_aret {rt : FieldType} {r : Option Nat} {mc0 ms0 : Nat} (hexec : p.tables.exec = Jvm.exec) (hb : c.code = cc) (hr : meth.sig.returnType = some rt) (hrt : (∃ n, rt = .object n) ∨ ∃ t, rt = .array t) (hlocks : meth.locks = false) (hS : va_S A s.heap H locs) (hp : post (some (va_rf r)) H) (hc : cells ≤ mc0) (hs : slots ≤ ms0) (hdg : decode cc pc = .ok (.areturn, 1)) : W p l e R s m args below meth c H locs cells slots (vx_MQ below (zQ post A) (zX xp0) args s mc0 ms0 A) (F0 m pc ls [va_rf r]) :=
  W.widen hc hs (vx_ret (W.aret hexec hb hr hrt (by cases r with | none => exact Or.inl rfl | some x => exact Or.inr ⟨x, rfl⟩) (fun t ht _ => ⟨⟨_, rfl, by rw [ht]; exact hp⟩, hS.F ht⟩) hS.2.2 hdg hlocks))
theorem z_fret {v : UInt32} {mc0 ms0 : Nat} (hexec : p.tables.exec = Jvm.exec) (hb : c.code = cc) (hr : meth.sig.returnType = some .float) (hlocks : meth.locks = false) (hS : va_S A s.heap H locs) (hp : post (some (.float v)) H) (hc : cells ≤ mc0) (hs : slots ≤ ms0) (hdg : decode cc pc = .ok (.freturn, 1)) : W p l e R s m args below meth c H locs cells slots (vx_MQ below (zQ post A) (zX xp0) args s mc0 ms0 A) (F0 m pc ls [.float v]) :=
  W.widen hc hs (vx_ret (W.fret hexec hb hr (fun t ht _ => ⟨⟨_, rfl, by rw [ht]; exact hp⟩, hS.F ht⟩) hS.2.2 hdg hlocks))
theorem z_dret {v : UInt64} {mc0 ms0 : Nat} (hexec : p.tables.exec = Jvm.exec) (hb : c.code = cc) (hr : meth.sig.returnType = some .double) (hlocks : meth.locks = false) (hS : va_S A s.heap H locs) (hp : post (some (.double v)) H) (hc : cells ≤ mc0) (hs : slots ≤ ms0) (hdg : decode cc pc = .ok (.dreturn, 1)) : W p l e R s m args below meth c H locs cells slots (vx_MQ below (zQ post A) (zX xp0) args s mc0 ms0 A) (F0 m pc ls [.double v]) :=
  W.widen hc hs (vx_ret (W.dret hexec hb hr (fun t ht _ => ⟨⟨_, rfl, by rw [ht]; exact hp⟩, hS.F ht⟩) hS.2.2 hdg hlocks))
end ZC
/-- a contract, from its body's walk -/
theorem z_enter {l : Launch} {y : MethodName} {cc : ByteArray} {maxL : Nat} {ret : Option FieldType} {rm : Room} {G : zG} {A : Nat → Prop} {av : List Value} {H0 : Heap} {post : Option Value → Heap → Prop} {xp : String → Prop} (hy : plainName y.cls = true) (hlen : (lg_sl av).length ≤ maxL)
    (body : ∀ (p : Program) (e : Env) (s : State) (m : MethodId) (args : Array Value) (below : List Frame) (meth : Method) (c : Code) (ls : Array Slot), p.tables.exec = Jvm.exec → c.code = cc → meth.sig.returnType = ret → c.maxLocals = maxL → s.vm.findClass y.cls = some m.cls → (∀ w ∈ lw_all, w.before args s = true) → meth.locks = false → (∀ x ∈ c.exceptionTable.toList, False) → meth.name = y.name → zK G A s → s.heap = H0 → lv_has ls maxL (lv_args 0 av) →
      W p l e rm s m args below meth c s.heap [] 0 0 (vx_MQ below (zQ post A) (zX xp) args s rm.cells rm.slots A) (F0 m 0 ls [])) : zM l y (ws_ y cc maxL ret) rm G A av H0 post xp := by
  refine vx_ofW (cc := cc) (maxL := maxL) (ret := ret) hy rfl ?_
  intro p e s m args below meth c s₁ B hml ht hv
  obtain ⟨rfl, hH, hK⟩ := hv
  have hts := atoms_spec (ws := ws_ y cc maxL ret) B.pre
  rw [lg_entry_eq]
  exact body p e s m _ below meth c _ B.exec B.bytes B.returns hml (findClass_of_methodNamed B.named) (fun w h => hts w (List.mem_cons_of_mem _ h)) B.notSynchronized ht (name_of_methodNamed B.named B.method).1 hK hH (lv_entry av hlen)
section ZA
variable {p : Program} {l : Launch} {e : Env} {R : Room} {s : State} {m : MethodId} {args : Array Value} {below : List Frame} {meth : Method} {c : Code} {H : Heap} {locs : List Loc} {cells slots : Nat} {Q : State → Prop}
variable {cc : ByteArray} {pc : Nat} {ls : Array Slot} {rest : List Value} {G : zG} {A : Nat → Prop} {H0 : Heap} {a : Nat}
theorem z_cat1 (r : Option Nat) : (va_rf r).category = 1 := by cases r <;> rfl
theorem z_nar (b : Bool) : narrow .boolean (.int (iI (bI b))) = .int (iI (bI b)) := by cases b <;> decide
theorem z_lvren {nL : Nat} {l1 l2 : List (Nat × Value)} (h : lv_has ls nL l1) (e : l1 = l2) : lv_has ls nL l2 := e ▸ h
theorem zN_le {H0 : Heap} {A : Nat → Prop} (hA : ∀ q, H0.size ≤ q → A q) (hS : va_S A H0 H locs) : ∀ q, zN H q → A q := fun q h => hA q (Nat.le_trans hS.1 h)
theorem z_top32 {x : Int32} {y : Int} (h : x = iI y) (k : W p l e R s m args below meth c H locs cells slots Q (F0 m pc ls (.int (iI y) :: rest))) : W p l e R s m args below meth c H locs cells slots Q (F0 m pc ls (.int x :: rest)) := h ▸ k
theorem z_iadd0 (hexec : p.tables.exec = Jvm.exec) (hb : c.code = cc) {x : Int} (hdg : decode cc pc = .ok (.iadd, 1)) (k : W p l e R s m args below meth c H locs cells slots Q (F0 m (pc + 1) ls (.int (iI x) :: rest))) : W p l e R s m args below meth c H locs cells slots Q (F0 m pc ls (.int (iI 0) :: .int (iI x) :: rest)) :=
  z_iadd hexec hb hdg (by rw [Int.add_zero]; exact k)
theorem z_0iadd (hexec : p.tables.exec = Jvm.exec) (hb : c.code = cc) {x : Int} (hdg : decode cc pc = .ok (.iadd, 1)) (k : W p l e R s m args below meth c H locs cells slots Q (F0 m (pc + 1) ls (.int (iI x) :: rest))) : W p l e R s m args below meth c H locs cells slots Q (F0 m pc ls (.int (iI x) :: .int (iI 0) :: rest)) :=
  z_iadd hexec hb hdg (by rw [Int.zero_add]; exact k)
theorem z_aloadq_n (hexec : p.tables.exec = Jvm.exec) (hb : c.code = cc) {k : Fin 4} {i : Nat} {r : Option Nat} (hdg : decode cc pc = .ok (.aload_n k, 1)) (hi : (k : Nat) = i) (hl : ls[i]? = some (.val (va_rf r))) (kk : W p l e R s m args below meth c H locs cells slots Q (F0 m (pc + 1) ls (va_rf r :: rest))) : W p l e R s m args below meth c H locs cells slots Q (F0 m pc ls rest) := by
  cases r with
  | none => exact lv_aload_nN hexec hb hdg hi hl kk
  | some x => exact lv_aload_n hexec hb hdg hi hl kk
theorem z_aloadq (hexec : p.tables.exec = Jvm.exec) (hb : c.code = cc) {i : Nat} {r : Option Nat} (hdg : decode cc pc = .ok (.aload i, 2)) (hl : ls[i]? = some (.val (va_rf r))) (kk : W p l e R s m args below meth c H locs cells slots Q (F0 m (pc + 2) ls (va_rf r :: rest))) : W p l e R s m args below meth c H locs cells slots Q (F0 m pc ls rest) := by
  cases r with
  | none => exact lv_aloadN hexec hb hdg hl kk
  | some x => exact lv_aload hexec hb hdg hl kk
theorem z_astoreq_n (hexec : p.tables.exec = Jvm.exec) (hb : c.code = cc) {k : Fin 4} {i nL : Nat} {r : Option Nat} {lv lv' : List (Nat × Value)} (hdg : decode cc pc = .ok (.astore_n k, 1)) (hi : (k : Nat) = i) (h : lv_has ls nL lv) (hn : i < nL) (hl : (i, va_rf r) :: lv.filter (fun q => !(q.1 == i) && !(q.1 + 1 == i && q.2.category == 2)) = lv')
    (kk : ∀ ls' : Array Slot, lv_has ls' nL lv' → W p l e R s m args below meth c H locs cells slots Q (F0 m (pc + 1) ls' rest)) : W p l e R s m args below meth c H locs cells slots Q (F0 m pc ls (va_rf r :: rest)) := by
  cases r with
  | none => exact lv_astore_nN hexec hb hdg hi h hn hl kk
  | some x => exact lv_astore_n hexec hb hdg hi h hn hl kk
theorem z_astoreq (hexec : p.tables.exec = Jvm.exec) (hb : c.code = cc) {i nL : Nat} {r : Option Nat} {lv lv' : List (Nat × Value)} (hdg : decode cc pc = .ok (.astore i, 2)) (h : lv_has ls nL lv) (hn : i < nL) (hl : (i, va_rf r) :: lv.filter (fun q => !(q.1 == i) && !(q.1 + 1 == i && q.2.category == 2)) = lv')
    (kk : ∀ ls' : Array Slot, lv_has ls' nL lv' → W p l e R s m args below meth c H locs cells slots Q (F0 m (pc + 2) ls' rest)) : W p l e R s m args below meth c H locs cells slots Q (F0 m pc ls (va_rf r :: rest)) := by
  cases r with
  | none => exact lv_astoreN hexec hb hdg h hn hl kk
  | some x => exact lv_astore hexec hb hdg h hn hl kk
end ZA
section ZL
variable {p : Program} {l : Launch} {e : Env} {R : Room} {s : State} {m : MethodId} {args : Array Value} {below : List Frame} {meth : Method} {c : Code} {H : Heap} {locs : List Loc} {cells slots : Nat} {Q : State → Prop} {A : Nat → Prop} {H0 : Heap}
/-- a loop that writes nothing -/
theorem z_loop {σ : Type} {nL hd : Nat} (lv : σ → List (Nat × Value)) (Inv : σ → Prop) (μ : σ → Nat)
    (hstep : ∀ (x : σ) (locs : List Loc), Inv x → va_S A H0 H locs → (∀ (y : σ) (locs : List Loc), Inv y → va_S A H0 H locs → μ y < μ x → ∀ ls, lv_has ls nL (lv y) → W p l e R s m args below meth c H locs cells slots Q (F0 m hd ls [])) → ∀ ls, lv_has ls nL (lv x) → W p l e R s m args below meth c H locs cells slots Q (F0 m hd ls [])) :
    ∀ (x : σ) (locs : List Loc), Inv x → va_S A H0 H locs → ∀ ls, lv_has ls nL (lv x) → W p l e R s m args below meth c H locs cells slots Q (F0 m hd ls []) := by
  have key : ∀ (n : Nat) (x : σ) (locs : List Loc), μ x < n → Inv x → va_S A H0 H locs → ∀ ls, lv_has ls nL (lv x) → W p l e R s m args below meth c H locs cells slots Q (F0 m hd ls []) := by
    intro n
    induction n with
    | zero => intro x locs h; exact absurd h (Nat.not_lt_zero _)
    | succ n ih => exact fun x locs hm hi hS ls hl => hstep x locs hi hS (fun y locs' hy hS' hlt ls' hl' => ih y locs' (by omega) hy hS' ls' hl') ls hl
  exact fun x locs hi hS ls hl => key (μ x + 1) x locs (Nat.lt_succ_self _) hi hS ls hl
/-- a loop over a heap that changes -/
theorem z_loopH {σ : Type} {nL hd : Nat} (lv : σ → List (Nat × Value)) (Inv : σ → Heap → Prop) (cs sl : σ → Nat) (μ : σ → Nat)
    (hstep : ∀ (x : σ) (H : Heap) (locs : List Loc), Inv x H → va_S A H0 H locs → (∀ (y : σ) (H : Heap) (locs : List Loc), Inv y H → va_S A H0 H locs → μ y < μ x → ∀ ls, lv_has ls nL (lv y) → W p l e R s m args below meth c H locs (cs y) (sl y) Q (F0 m hd ls [])) → ∀ ls, lv_has ls nL (lv x) → W p l e R s m args below meth c H locs (cs x) (sl x) Q (F0 m hd ls [])) :
    ∀ (x : σ) (H : Heap) (locs : List Loc), Inv x H → va_S A H0 H locs → ∀ ls, lv_has ls nL (lv x) → W p l e R s m args below meth c H locs (cs x) (sl x) Q (F0 m hd ls []) := by
  have key : ∀ (n : Nat) (x : σ) (H : Heap) (locs : List Loc), μ x < n → Inv x H → va_S A H0 H locs → ∀ ls, lv_has ls nL (lv x) → W p l e R s m args below meth c H locs (cs x) (sl x) Q (F0 m hd ls []) := by
    intro n
    induction n with
    | zero => intro x H locs h; exact absurd h (Nat.not_lt_zero _)
    | succ n ih => exact fun x H locs hm hi hS ls hl => hstep x H locs hi hS (fun y H' locs' hy hS' hlt ls' hl' => ih y H' locs' (by omega) hy hS' ls' hl') ls hl
  exact fun x H locs hi hS ls hl => key (μ x + 1) x H locs (Nat.lt_succ_self _) hi hS ls hl
end ZL
def tw_max (a b : Int) : Int := if a < b then b else a
def tw_min (a b : Int) : Int := if b < a then b else a
def tw_abs (a : Int) : Int := if a < 0 then - a else a
section ZM
variable {p : Program} {l : Launch} {e : Env} {R : Room} {s : State} {m : MethodId} {args : Array Value} {below : List Frame} {meth : Method} {c : Code} {H : Heap} {locs : List Loc} {cells slots : Nat} {Q : State → Prop}
variable {cc : ByteArray} {pc : Nat} {ls : Array Slot} {rest : List Value}
theorem z_mmax (hexec : p.tables.exec = Jvm.exec) (hb : c.code = cc) (hml : ls.size = c.maxLocals) {own : String} {index : Nat} (hown : s.vm.findClass own = some m.cls) (hlink : (Cond.methodLink own index Lib.Math.max.name).before args s = true) (hstat : (Cond.static Lib.Math.max.name).before args s = true) (hini : (Cond.initialized "java/lang/Math").before args s = true) (hcode : (Cond.code Lib.Math.max.name Lib.Math.max.code 2 (some .int)).before args s = true)
    (hframes : 1 ≤ R.frames) (hlocals : (rest.map fun v => v.category).sum + 13 ≤ R.locals) (hc : cells ≤ R.cells) (hs : slots ≤ R.slots) {x y : Int} (hx : inR x) (hy : inR y) (hdg : decode cc pc = .ok (.invokestatic index, 3))
    (kk : W p l e R s m args below meth c H locs cells slots Q (F0 m (pc + 3) ls (.int (iI (tw_max x y)) :: rest))) : W p l e R s m args below meth c H locs cells slots Q (F0 m pc ls (.int (iI y) :: .int (iI x) :: rest)) := by
  refine va_mmax hexec hb hml.symm hown hlink hstat hini hcode hframes hlocals hc hs hdg ?_
  rw [show (if iI x < iI y then iI y else iI x) = iI (tw_max x y) by unfold tw_max; by_cases h : x < y <;> simp [iI_lt hx hy, h]]
  exact kk
theorem z_mmin (hexec : p.tables.exec = Jvm.exec) (hb : c.code = cc) (hml : ls.size = c.maxLocals) {own : String} {index : Nat} (hown : s.vm.findClass own = some m.cls) (hlink : (Cond.methodLink own index Lib.Math.min.name).before args s = true) (hstat : (Cond.static Lib.Math.min.name).before args s = true) (hini : (Cond.initialized "java/lang/Math").before args s = true) (hcode : (Cond.code Lib.Math.min.name Lib.Math.min.code 2 (some .int)).before args s = true)
    (hframes : 1 ≤ R.frames) (hlocals : (rest.map fun v => v.category).sum + 13 ≤ R.locals) (hc : cells ≤ R.cells) (hs : slots ≤ R.slots) {x y : Int} (hx : inR x) (hy : inR y) (hdg : decode cc pc = .ok (.invokestatic index, 3))
    (kk : W p l e R s m args below meth c H locs cells slots Q (F0 m (pc + 3) ls (.int (iI (tw_min x y)) :: rest))) : W p l e R s m args below meth c H locs cells slots Q (F0 m pc ls (.int (iI y) :: .int (iI x) :: rest)) := by
  refine va_mmin hexec hb hml.symm hown hlink hstat hini hcode hframes hlocals hc hs hdg ?_
  first
    | (rw [show (if iI y < iI x then iI y else iI x) = iI (tw_min x y) by unfold tw_min; by_cases h : y < x <;> simp [iI_lt hy hx, h]]; exact kk)
    | (rw [show (if iI x > iI y then iI y else iI x) = iI (tw_min x y) by unfold tw_min; by_cases h : y < x <;> simp [iI_lt hy hx, h]]; exact kk)
    | (rw [show (if iI x ≤ iI y then iI x else iI y) = iI (tw_min x y) by unfold tw_min; by_cases h : y < x <;> simp [iI_le hx hy, h] <;> omega]; exact kk)
theorem z_mabs (hexec : p.tables.exec = Jvm.exec) (hb : c.code = cc) (hml : ls.size = c.maxLocals) {own : String} {index : Nat} (hown : s.vm.findClass own = some m.cls) (hlink : (Cond.methodLink own index Lib.Math.abs.name).before args s = true) (hstat : (Cond.static Lib.Math.abs.name).before args s = true) (hini : (Cond.initialized "java/lang/Math").before args s = true) (hcode : (Cond.code Lib.Math.abs.name Lib.Math.abs.code 1 (some .int)).before args s = true)
    (hframes : 1 ≤ R.frames) (hlocals : (rest.map fun v => v.category).sum + 13 ≤ R.locals) (hc : cells ≤ R.cells) (hs : slots ≤ R.slots) {x : Int} (hx : inR x) (hdg : decode cc pc = .ok (.invokestatic index, 3))
    (kk : W p l e R s m args below meth c H locs cells slots Q (F0 m (pc + 3) ls (.int (iI (tw_abs x)) :: rest))) : W p l e R s m args below meth c H locs cells slots Q (F0 m pc ls (.int (iI x) :: rest)) := by
  refine va_mabs hexec hb hml.symm hown hlink hstat hini hcode hframes hlocals hc hs hdg ?_
  have h0 : (0 : Int32) - iI x = iI (- x) := by rw [iI_0, iI_sub]; congr 1; omega
  have h1 : (0 : Int32) ≤ iI x ↔ ¬ x < 0 := by rw [iI_0, iI_le (a := 0) (b := x) (by decide) hx]; omega
  rw [show (if 0 ≤ iI x then iI x else 0 - iI x) = iI (tw_abs x) by
    unfold tw_abs
    by_cases h : x < 0
    · rw [if_pos h, if_neg (fun q => h1.mp q h), h0]
    · rw [if_neg h, if_pos (h1.mpr h)]]
  exact kk
end ZM

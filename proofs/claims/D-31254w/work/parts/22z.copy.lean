set_option maxRecDepth 100000
section ZCP
variable {p : Program} {l : Launch} {e : Env} {R : Room} {s : State} {m : MethodId} {args : Array Value} {below : List Frame} {meth : Method} {c : Code} {H : Heap} {locs : List Loc} {cells slots : Nat} {Q : State → Prop}
variable {cc : ByteArray} {pc : Nat} {ls : Array Slot} {rest : List Value} {G : zG} {A : Nat → Prop} {H0 : Heap} {a : Nat}
/-- System.arraycopy between rows of Object (one row or two) -/
theorem z_copyA (hexec : p.tables.exec = Jvm.exec) (hb : c.code = cc) (hml : ls.size = c.maxLocals) {own : String} {index : Nat} (hts : ∀ w ∈ lw_all, w.before args s = true) (hown : s.vm.findClass own = some m.cls) (hlink : (Cond.methodLink own index arraycopyName) ∈ lw_all)
    (hK : zK G A s) (hS : va_S A H0 H locs) (hAa : A a) {a0 n0 n1 : Nat} {f g : Nat → Option Nat} (hc0 : zAO G H a0 n0 f) (hc1 : zAO G H a n1 g)
    {sp dp n : Int} (h1 : 0 ≤ sp) (h2 : 0 ≤ dp) (h3 : 0 ≤ n) (h4 : sp + n ≤ n0) (h5 : dp + n ≤ n1) (hb0 : n0 ≤ 1000000) (hb1 : n1 ≤ 1000000) (hel : ∀ i : Nat, (i : Int) < n → ∀ y : Nat, f (sp.toNat + i) = some y → va_Any "java/lang/Object" s H y)
    (hframes : 1 ≤ R.frames) (hlocals : (rest.map fun v => v.category).sum + (nativeFrameWords "java/lang/System" "arraycopy" 5 + 11) ≤ R.locals) (hdg : decode cc pc = .ok (.invokestatic index, 3))
    (kk : ∀ (H1 : Heap) (locs1 : List Loc), zAO G H1 a n1 (va_cpy f g sp.toNat dp.toNat n.toNat) → H1.size = H.size → (∀ q : Nat, q ≠ a → H1[q]? = H[q]?) → va_S A H0 H1 locs1 → W p l e R s m args below meth c H1 locs1 cells slots Q (F0 m (pc + 3) ls rest)) : W p l e R s m args below meth c H locs cells slots Q (F0 m pc ls (.int (iI n) :: .int (iI dp) :: .ref a :: .int (iI sp) :: .ref a0 :: rest)) := by
  have ns : ∀ z : Int, 0 ≤ z → z ≤ 1000000 → ¬ iI z < 0 := fun z hz hz2 q => absurd ((iI_lt (a := z) (b := 0) ⟨by omega, by omega⟩ (by decide)).mp q) (by omega)
  have cl : ∀ z : Int, 0 ≤ z → z ≤ 1000000 → (iI z).toNatClampNeg = z.toNat := fun z hz hz2 => iI_clamp hz (by omega)
  have ti : ∀ z : Int, 0 ≤ z → z ≤ 1000000 → (iI z).toInt = z := fun z hz hz2 => iI_toInt ⟨by omega, by omega⟩
  have b1 : sp ≤ 1000000 := by omega
  have b2 : dp ≤ 1000000 := by omega
  have b3 : n ≤ 1000000 := by omega
  intro T hT X
  obtain ⟨-, k0, hk0, cm0, hkk0⟩ := (hK.1.2 1 _ rfl).1 n0 (fun j => va_rf (f j))
  obtain ⟨-, k1, hk1, cm1, hkk1⟩ := (hK.1.2 1 _ rfl).1 n1 (fun j => va_rf (g j))
  obtain ⟨vm', X', step⟩ := X.arraycopy hexec hown (hts _ hlink) (hts _ q1156) (hts _ q1155) (hts _ q75) (src := a0) (dst := a) (cs := vp_cell G.2.1.2.1 (n0, .inr (.inr (.inr (.inr f))))) (cd := vp_cell G.2.1.2.1 (n1, .inr (.inr (.inr (.inr g))))) (srcPos := iI sp) (destPos := iI dp) (n := iI n) (by rw [hT]; exact hc0) (by rw [hT]; exact hc1)
    (fun _ h => by cases h) (fun _ h => by cases h) (fun h => by cases h) (fun h => by cases h) hk0 hk1 hkk0 hkk1 rfl (ns sp h1 b1) (ns dp h2 b2) (ns n h3 b3)
    (by rw [ti sp h1 b1, ti n h3 b3]; show ¬ _ > ((arrV _ n0 (fun j => va_rf (f j))).slots.size : Int); rw [arrV_size]; omega)
    (by rw [ti dp h2 b2, ti n h3 b3]; show ¬ _ > ((arrV _ n1 (fun j => va_rf (g j))).slots.size : Int); rw [arrV_size]; omega)
    (fun vm₁ hal i hi => by
      rw [cl n h3 b3] at hi
      rw [cl sp h1 b1]
      have e : (vp_cell G.2.1.2.1 (n0, .inr (.inr (.inr (.inr f))))).slots.getD (sp.toNat + i) .null = va_rf (f (sp.toNat + i)) := by
        show (arrV _ n0 (fun j => va_rf (f j))).slots.getD _ _ = _
        rw [Array.getD_eq_getD_getElem?, arrV_read _ _ (by omega)]
        rfl
      rw [e]
      cases hy : f (sp.toNat + i) with
      | none => exact ⟨rfl, trivial⟩
      | some y =>
        obtain ⟨cellV, g1, g2, ⟨kC, hkC⟩, hasg⟩ := hel i (by omega) y hy
        obtain ⟨kA, comp, r1, r2, r3, -⟩ := (hK.1.2 1 _ rfl).2
        cases hk1.symm.trans r1
        cases hkk1.symm.trans r2
        obtain ⟨kE, hkE, -⟩ := Vm.findClass_spec r3
        obtain ⟨kC', hkC', -⟩ := hal.2.2 _ _ hkC
        obtain ⟨kE', hkE', -⟩ := hal.2.2 _ _ hkE
        refine ⟨rfl, cellV, (show T.heap[y]? = some cellV by rw [hT]; exact g1), (fun q h => by rw [h] at g2; cases g2), ⟨kC', hkC'⟩, ?_, ?_⟩
        · exact ⟨kE', hkE'⟩
        · show vm₁.assignable _ _ = true
          rw [hal.assignable]
          exact hasg _ r3)
    (g := F0 m pc ls (.int (iI n) :: .int (iI dp) :: .ref a :: .int (iI sp) :: .ref a0 :: rest)) rfl (by rw [hml]) (rest := rest) rfl (by rw [hb]; exact hdg) hframes (by show 2 * 0 + _ + _ ≤ _; omega)
  have e1 : copied (vp_cell G.2.1.2.1 (n0, .inr (.inr (.inr (.inr f))))) (vp_cell G.2.1.2.1 (n1, .inr (.inr (.inr (.inr g))))) (iI sp) (iI dp) (iI n) = vp_cell G.2.1.2.1 (n1, .inr (.inr (.inr (.inr (va_cpy f g sp.toNat dp.toNat n.toNat))))) := by
    rw [vp_cell_q, vp_cell_q, vp_cell_q, ← cl sp h1 b1, ← cl dp h2 b2, ← cl n h3 b3]
    exact va_copied (fun z => va_rf z) _ _ f g (by rw [cl sp h1 b1, cl n h3 b3]; omega)
  rw [e1] at X' step
  have hl : a < H.size := (Array.getElem?_eq_some_iff.mp hc1).1
  have hheap : ((T.setVm vm').setCell a (vp_cell G.2.1.2.1 (n1, .inr (.inr (.inr (.inr (va_cpy f g sp.toNat dp.toNat n.toNat))))))).heap = H.setIfInBounds a (vp_cell G.2.1.2.1 (n1, .inr (.inr (.inr (.inr (va_cpy f g sp.toNat dp.toNat n.toNat)))))) := by rw [← hT]; rfl
  have oq : ∀ q : Nat, q ≠ a → (H.setIfInBounds a (vp_cell G.2.1.2.1 (n1, .inr (.inr (.inr (.inr (va_cpy f g sp.toNat dp.toNat n.toNat)))))))[q]? = H[q]? := fun q hq => by simp [Array.getElem?_setIfInBounds, Ne.symm hq]
  obtain ⟨t, a1, b1⟩ := kk _ _ (show (H.setIfInBounds a _)[a]? = some _ by simp [Array.getElem?_setIfInBounds, hl]) (by simp) oq ⟨by simp; exact hS.1, fun q g1 g2 => by
      rw [oq q (fun e => g2 (by rw [e]; exact hAa))]
      exact hS.2.1 q g1 g2, fun q hq => by
      rcases List.mem_append.mp hq with h | h
      · exact hS.2.2 q h
      · obtain ⟨z, -, hz⟩ := List.mem_map.mp h
        rw [← hz]
        exact hAa⟩ _ hheap X'
  exact ⟨t, step t a1, b1⟩
theorem zEf_at {n i : Int} {el : Nat → Nat} (h : 0 ≤ i ∧ i < n) : zEf n el i.toNat = some (el i.toNat) := if_pos (by omega)
theorem zEf_push {n : Int} {el : Nat → Nat} {y : Nat} (h : 0 ≤ n) : va_up (zEf n el) n.toNat (some y) = zEf (n + 1) (fun i => if (i : Int) = n then y else el i) := by
  funext i
  unfold va_up zEf
  by_cases h1 : i = n.toNat
  · rw [if_pos h1, if_pos (by omega)]
    exact congrArg some (if_pos (by omega)).symm
  · rw [if_neg h1]
    by_cases h2 : (i : Int) < n
    · rw [if_pos h2, if_pos (by omega)]
      exact congrArg some (if_neg (by omega)).symm
    · rw [if_neg h2, if_neg (by omega)]
theorem z_aldL (hexec : p.tables.exec = Jvm.exec) (hb : c.code = cc) (hK : zK G A s) {cp : Nat} {n : Int} {el : Nat → Nat} (ha : zAO G H a cp (zEf n el)) {i : Int} (h0 : 0 ≤ i ∧ i < n) (h1 : n ≤ cp) (hn : cp ≤ 1000) (hdg : decode cc pc = .ok (.aaload, 1))
    (kk : W p l e R s m args below meth c H locs cells slots Q (F0 m (pc + 1) ls (.ref (el i.toNat) :: rest))) : W p l e R s m args below meth c H locs cells slots Q (F0 m pc ls (.int (iI i) :: .ref a :: rest)) :=
  z_ald hexec hb hK ha h0.1 (by omega) (by omega) hdg (by rw [zEf_at h0]; exact kk)
theorem z_newAO (hexec : p.tables.exec = Jvm.exec) (hb : c.code = cc) {own : String} {index : Nat} (hts : ∀ w ∈ lw_all, w.before args s = true) (hown : s.vm.findClass own = some m.cls) (hclink : (Cond.classLink own index "java/lang/Object") ∈ lw_all) (hK : zK G A s) (hS : va_S A H0 H locs)
    {n : Int} (N : Nat) (hN : n = N) (hN2 : N ≤ 100000000) (hcells : cells + 1 ≤ R.cells) (hslots : slots + N ≤ R.slots) (hdg : decode cc pc = .ok (.anewarray index, 3))
    (kk : ∀ (q : Nat) (H1 : Heap), q = H.size → zAO G H1 q N (fun _ => none) → H1.size = H.size + 1 → (∀ q : Nat, q < H.size → H1[q]? = H[q]?) → va_S A H0 H1 locs →
      W p l e R s m args below meth c H1 locs (cells + 1) (slots + N) Q (F0 m (pc + 3) ls (.ref q :: rest))) : W p l e R s m args below meth c H locs cells slots Q (F0 m pc ls (.int (iI n) :: rest)) :=
  z_newA hexec hb hts hown hclink hK hS N hN hN2 hcells hslots hdg fun H1 h1 h2 h3 h4 => kk _ H1 rfl h1 h2 h3 h4
end ZCP

set_option maxRecDepth 100000
theorem hn_J2_size : yJ2_size.cls ≠ "java/lang/invoke/MethodHandle" ∧ yJ2_size.cls ≠ "java/lang/invoke/VarHandle" ∧ (parseMethodDescriptor yJ2_size.desc).map (fun d => d.parameters.length) = some 0 := by decide +kernel
theorem hd_J2_size : yJ2_size.cls = "java/util/ArrayList" ∧ yJ2_size.cls ≠ "java/lang/invoke/MethodHandle" ∧ yJ2_size.cls ≠ "java/lang/invoke/VarHandle" ∧ (parseMethodDescriptor yJ2_size.desc).map (fun d => d.parameters.length) = some 0 := ⟨rfl, hn_J2_size⟩
abbrev rm_J2_size : Room := { frames := 1, cells := 0, slots := 0, locals := 16 }
set_option maxHeartbeats 1000000 in
theorem cg_J2_size (l : Launch) {G : zG} {H0 : Heap} {al ar : Nat} {mc n : Int} (h1 : zO G H0 al 35 [.int (iI mc), .ref ar, .int (iI n)]) : zM l yJ2_size (ws_ yJ2_size cJ2_size 1 (some .int)) rm_J2_size G (zN H0) [.ref al] H0 (fun r H1 => r = some (.int (iI n)) ∧ H1 = H0) (fun _ => False) := by
  refine z_enter (by decide +kernel) (Nat.le_of_ble_eq_true rfl) ?_
  intro p e s m args below meth c ls hx hb hret hml hown hts hlocks htab hnm hK hH hl
  subst hH
  have hAn : ∀ q, s.heap.size ≤ q → (zN s.heap) q := fun _ h => h
  have hS : va_S (zN s.heap) s.heap s.heap [] := va_S.rf
  have hS0 := hS
  have hsz_0 : s.heap.size ≤ s.heap.size := Nat.le_refl _
  have hl : lv_has ls 1 [(0, .ref al)] := hl
  refine lv_aload_n hx hb dJ2_size_0 rfl (lv_at hl 0 rfl) ?_
  refine z_get (k := 2) hx hb hts in_J2 hown hK h1 rfl (by decide) q133 rfl (v := .int (iI n)) rfl dJ2_size_1 ?_
  exact z_iret hx hb hret rfl hlocks hS ⟨rfl, rfl⟩ (Nat.le_of_ble_eq_true rfl) (Nat.le_of_ble_eq_true rfl) dJ2_size_4
theorem hn_J10_checkIndex : yJ10_checkIndex.cls ≠ "java/lang/invoke/MethodHandle" ∧ yJ10_checkIndex.cls ≠ "java/lang/invoke/VarHandle" ∧ (parseMethodDescriptor yJ10_checkIndex.desc).map (fun d => d.parameters.length) = some 3 := by decide +kernel
theorem hd_J10_checkIndex : yJ10_checkIndex.cls = "jdk/internal/util/Preconditions" ∧ yJ10_checkIndex.cls ≠ "java/lang/invoke/MethodHandle" ∧ yJ10_checkIndex.cls ≠ "java/lang/invoke/VarHandle" ∧ (parseMethodDescriptor yJ10_checkIndex.desc).map (fun d => d.parameters.length) = some 3 := ⟨rfl, hn_J10_checkIndex⟩
abbrev rm_J10_checkIndex : Room := { frames := 1, cells := 0, slots := 0, locals := 16 }
set_option maxHeartbeats 1000000 in
theorem cg_J10_checkIndex (l : Launch) {G : zG} {H0 : Heap} {i0 n0 : Int} (hi : 0 ≤ i0 ∧ i0 < n0) (hn : n0 ≤ 1000) : zM l yJ10_checkIndex (ws_ yJ10_checkIndex cJ10_checkIndex 3 (some .int)) rm_J10_checkIndex G (zN H0) [.int (iI i0), .int (iI n0), .null] H0 (fun r H1 => r = some (.int (iI i0)) ∧ H1 = H0) (fun _ => False) := by
  refine z_enter (by decide +kernel) (Nat.le_of_ble_eq_true rfl) ?_
  intro p e s m args below meth c ls hx hb hret hml hown hts hlocks htab hnm hK hH hl
  subst hH
  have hAn : ∀ q, s.heap.size ≤ q → (zN s.heap) q := fun _ h => h
  have hS : va_S (zN s.heap) s.heap s.heap [] := va_S.rf
  have hS0 := hS
  have hsz_0 : s.heap.size ≤ s.heap.size := Nat.le_refl _
  have hl : lv_has ls 3 [(0, .int (iI i0)), (1, .int (iI n0)), (2, .null)] := hl
  refine lv_iload_n hx hb dJ10_checkIndex_0 rfl (lv_at hl 0 rfl) ?_
  refine z_if_lt (x := i0) (tgt := 9) hx hb (by first | with_reducible assumption | omega | exact ⟨by omega, by omega⟩) dJ10_checkIndex_1 (by decide) (fun c_1 => ?_) (fun c_1 => ?_)
  · exact absurd c_1 (by omega)
  · refine lv_iload_n hx hb dJ10_checkIndex_4 rfl (lv_at hl 0 rfl) ?_
    refine lv_iload_n hx hb dJ10_checkIndex_5 rfl (lv_at hl 1 rfl) ?_
    refine z_icmp_lt (x := i0) (y := n0) (tgt := 16) hx hb (by first | with_reducible assumption | omega | exact ⟨by omega, by omega⟩) (by first | with_reducible assumption | omega | exact ⟨by omega, by omega⟩) dJ10_checkIndex_6 (by decide) (fun c_2 => ?_) (fun c_2 => ?_)
    · refine lv_iload_n hx hb dJ10_checkIndex_16 rfl (lv_at hl 0 rfl) ?_
      exact z_iret hx hb hret rfl hlocks hS ⟨rfl, rfl⟩ (Nat.le_of_ble_eq_true rfl) (Nat.le_of_ble_eq_true rfl) dJ10_checkIndex_17
    · exact absurd c_2 (by omega)
theorem hn_J9_checkIndex : yJ9_checkIndex.cls ≠ "java/lang/invoke/MethodHandle" ∧ yJ9_checkIndex.cls ≠ "java/lang/invoke/VarHandle" ∧ (parseMethodDescriptor yJ9_checkIndex.desc).map (fun d => d.parameters.length) = some 2 := by decide +kernel
theorem hd_J9_checkIndex : yJ9_checkIndex.cls = "java/util/Objects" ∧ yJ9_checkIndex.cls ≠ "java/lang/invoke/MethodHandle" ∧ yJ9_checkIndex.cls ≠ "java/lang/invoke/VarHandle" ∧ (parseMethodDescriptor yJ9_checkIndex.desc).map (fun d => d.parameters.length) = some 2 := ⟨rfl, hn_J9_checkIndex⟩
abbrev rm_J9_checkIndex : Room := { frames := 2, cells := 0, slots := 0, locals := 38 }
set_option maxHeartbeats 1000000 in
theorem cg_J9_checkIndex (l : Launch) {G : zG} {H0 : Heap} {i0 n0 : Int} (hi : 0 ≤ i0 ∧ i0 < n0) (hn : n0 ≤ 1000) : zM l yJ9_checkIndex (ws_ yJ9_checkIndex cJ9_checkIndex 2 (some .int)) rm_J9_checkIndex G (zN H0) [.int (iI i0), .int (iI n0)] H0 (fun r H1 => r = some (.int (iI i0)) ∧ H1 = H0) (fun _ => False) := by
  refine z_enter (by decide +kernel) (Nat.le_of_ble_eq_true rfl) ?_
  intro p e s m args below meth c ls hx hb hret hml hown hts hlocks htab hnm hK hH hl
  subst hH
  have hAn : ∀ q, s.heap.size ≤ q → (zN s.heap) q := fun _ h => h
  have hS : va_S (zN s.heap) s.heap s.heap [] := va_S.rf
  have hS0 := hS
  have hsz_0 : s.heap.size ≤ s.heap.size := Nat.le_refl _
  have hl : lv_has ls 2 [(0, .int (iI i0)), (1, .int (iI n0))] := hl
  refine lv_iload_n hx hb dJ9_checkIndex_0 rfl (lv_at hl 0 rfl) ?_
  refine lv_iload_n hx hb dJ9_checkIndex_1 rfl (lv_at hl 1 rfl) ?_
  refine lv_null hx hb dJ9_checkIndex_2 ?_
  refine z_callp (vx_runS (As := [.int (iI i0), .int (iI n0), .null]) (rest := []) ⟨hx, hb, hml, hown, hts⟩ (cg_J10_checkIndex l (i0 := i0) (n0 := n0) (by first | with_reducible assumption | omega | exact ⟨by omega, by omega⟩) (by first | with_reducible assumption | omega | exact ⟨by omega, by omega⟩)) (va_cwS 3 hts (lw_S q261 q262 q58 q263) rfl rfl rfl hn_J10_checkIndex ⟨Nat.le_of_ble_eq_true rfl, Nat.le_of_ble_eq_true rfl⟩) (z_preS hK hS (zN_le hAn hS)) rfl rfl hl.1 rfl (lv_room (Nat.le_of_ble_eq_true rfl)) dJ9_checkIndex_3 ⟨Nat.le_of_ble_eq_true rfl, Nat.le_of_ble_eq_true rfl⟩) hS (zN_le hAn hS) rfl rfl (fun locs hS => ?_)
  exact z_iret hx hb hret rfl hlocks hS ⟨rfl, rfl⟩ (Nat.le_of_ble_eq_true rfl) (Nat.le_of_ble_eq_true rfl) dJ9_checkIndex_6
theorem hn_J2_elementData : yJ2_elementData.cls ≠ "java/lang/invoke/MethodHandle" ∧ yJ2_elementData.cls ≠ "java/lang/invoke/VarHandle" ∧ (parseMethodDescriptor yJ2_elementData.desc).map (fun d => d.parameters.length) = some 1 := by decide +kernel
theorem hd_J2_elementData : yJ2_elementData.cls = "java/util/ArrayList" ∧ yJ2_elementData.cls ≠ "java/lang/invoke/MethodHandle" ∧ yJ2_elementData.cls ≠ "java/lang/invoke/VarHandle" ∧ (parseMethodDescriptor yJ2_elementData.desc).map (fun d => d.parameters.length) = some 1 := ⟨rfl, hn_J2_elementData⟩
abbrev rm_J2_elementData : Room := { frames := 1, cells := 0, slots := 0, locals := 16 }
set_option maxHeartbeats 1000000 in
theorem cg_J2_elementData (l : Launch) {G : zG} {H0 : Heap} {al ar cp : Nat} {mc n : Int} {el : Nat → Nat} (hL : zLst G H0 al ar mc n cp el) {i0 : Int} (hi : 0 ≤ i0 ∧ i0 < n) : zM l yJ2_elementData (ws_ yJ2_elementData cJ2_elementData 2 (some (.object "java/lang/Object"))) rm_J2_elementData G (zN H0) [.ref al, .int (iI i0)] H0 (fun r H1 => r = some (.ref (el i0.toNat)) ∧ H1 = H0) (fun _ => False) := by
  refine z_enter (by decide +kernel) (Nat.le_of_ble_eq_true rfl) ?_
  intro p e s m args below meth c ls hx hb hret hml hown hts hlocks htab hnm hK hH hl
  subst hH
  have hAn : ∀ q, s.heap.size ≤ q → (zN s.heap) q := fun _ h => h
  have hS : va_S (zN s.heap) s.heap s.heap [] := va_S.rf
  have hS0 := hS
  have hsz_0 : s.heap.size ≤ s.heap.size := Nat.le_refl _
  have hl : lv_has ls 2 [(0, .ref al), (1, .int (iI i0))] := hl
  have hbd := hL.2.2.1
  have hcp := hL.2.2.2.1
  have hne := hL.2.2.2.2
  refine lv_aload_n hx hb dJ2_elementData_0 rfl (lv_at hl 0 rfl) ?_
  refine z_get (k := 1) hx hb hts in_J2 hown hK hL.1 rfl (by decide) q132 rfl (v := .ref ar) rfl dJ2_elementData_1 ?_
  refine lv_iload_n hx hb dJ2_elementData_4 rfl (lv_at hl 1 rfl) ?_
  refine z_aldL (i := i0) hx hb hK hL.2.1 ⟨by omega, by omega⟩ (by omega) (by omega) dJ2_elementData_5 ?_
  exact z_aret (r := some (el (i0).toNat)) hx hb hret (Or.inl ⟨_, rfl⟩) hlocks hS ⟨rfl, rfl⟩ (Nat.le_of_ble_eq_true rfl) (Nat.le_of_ble_eq_true rfl) dJ2_elementData_6
theorem hn_J2_get : yJ2_get.cls ≠ "java/lang/invoke/MethodHandle" ∧ yJ2_get.cls ≠ "java/lang/invoke/VarHandle" ∧ (parseMethodDescriptor yJ2_get.desc).map (fun d => d.parameters.length) = some 1 := by decide +kernel
theorem hd_J2_get : yJ2_get.cls = "java/util/ArrayList" ∧ yJ2_get.cls ≠ "java/lang/invoke/MethodHandle" ∧ yJ2_get.cls ≠ "java/lang/invoke/VarHandle" ∧ (parseMethodDescriptor yJ2_get.desc).map (fun d => d.parameters.length) = some 1 := ⟨rfl, hn_J2_get⟩
abbrev rm_J2_get : Room := { frames := 3, cells := 0, slots := 0, locals := 59 }
set_option maxHeartbeats 1000000 in
theorem cg_J2_get (l : Launch) {G : zG} {H0 : Heap} {al ar cp : Nat} {mc n : Int} {el : Nat → Nat} (hL : zLst G H0 al ar mc n cp el) {i0 : Int} (hi : 0 ≤ i0 ∧ i0 < n) : zM l yJ2_get (ws_ yJ2_get cJ2_get 2 (some (.object "java/lang/Object"))) rm_J2_get G (zN H0) [.ref al, .int (iI i0)] H0 (fun r H1 => r = some (.ref (el i0.toNat)) ∧ H1 = H0) (fun _ => False) := by
  refine z_enter (by decide +kernel) (Nat.le_of_ble_eq_true rfl) ?_
  intro p e s m args below meth c ls hx hb hret hml hown hts hlocks htab hnm hK hH hl
  subst hH
  have hAn : ∀ q, s.heap.size ≤ q → (zN s.heap) q := fun _ h => h
  have hS : va_S (zN s.heap) s.heap s.heap [] := va_S.rf
  have hS0 := hS
  have hsz_0 : s.heap.size ≤ s.heap.size := Nat.le_refl _
  have hl : lv_has ls 2 [(0, .ref al), (1, .int (iI i0))] := hl
  have hbd := hL.2.2.1
  have hcp := hL.2.2.2.1
  have hne := hL.2.2.2.2
  refine lv_iload_n hx hb dJ2_get_0 rfl (lv_at hl 1 rfl) ?_
  refine lv_aload_n hx hb dJ2_get_1 rfl (lv_at hl 0 rfl) ?_
  refine z_get (k := 2) hx hb hts in_J2 hown hK hL.1 rfl (by decide) q133 rfl (v := .int (iI n)) rfl dJ2_get_2 ?_
  refine z_callp (vx_runS (As := [.int (iI i0), .int (iI n)]) (rest := []) ⟨hx, hb, hml, hown, hts⟩ (cg_J9_checkIndex l (i0 := i0) (n0 := n) (by first | with_reducible assumption | omega | exact ⟨by omega, by omega⟩) (by first | with_reducible assumption | omega | exact ⟨by omega, by omega⟩)) (va_cwS 2 hts (lw_S q258 q259 q57 q260) rfl rfl rfl hn_J9_checkIndex ⟨Nat.le_of_ble_eq_true rfl, Nat.le_of_ble_eq_true rfl⟩) (z_preS hK hS (zN_le hAn hS)) rfl rfl hl.1 rfl (lv_room (Nat.le_of_ble_eq_true rfl)) dJ2_get_5 ⟨Nat.le_of_ble_eq_true rfl, Nat.le_of_ble_eq_true rfl⟩) hS (zN_le hAn hS) rfl rfl (fun locs hS => ?_)
  refine lv_pop hx hb dJ2_get_8 rfl ?_
  refine lv_aload_n hx hb dJ2_get_9 rfl (lv_at hl 0 rfl) ?_
  refine lv_iload_n hx hb dJ2_get_10 rfl (lv_at hl 1 rfl) ?_
  refine z_callp (vx_runV (As := [.int (iI i0)]) (rest := []) ⟨hx, hb, hml, hown, hts⟩ (cg_J2_elementData l hL (i0 := i0) (by first | with_reducible assumption | omega | exact ⟨by omega, by omega⟩)) (cwV 1 hts (lw_V q264 q265 q266 q46 q267) rfl rfl rfl hd_J2_elementData ⟨Nat.le_of_ble_eq_true rfl, Nat.le_of_ble_eq_true rfl⟩) (z_preV hK hS (zN_le hAn hS) hL.1 rfl rfl) rfl rfl hl.1 rfl (lv_room (Nat.le_of_ble_eq_true rfl)) dJ2_get_11 ⟨Nat.le_of_ble_eq_true rfl, Nat.le_of_ble_eq_true rfl⟩) hS (zN_le hAn hS) rfl rfl (fun locs hS => ?_)
  exact z_aret (r := some (el (i0).toNat)) hx hb hret (Or.inl ⟨_, rfl⟩) hlocks hS ⟨rfl, rfl⟩ (Nat.le_of_ble_eq_true rfl) (Nat.le_of_ble_eq_true rfl) dJ2_get_14
theorem hn_J14_newLength : yJ14_newLength.cls ≠ "java/lang/invoke/MethodHandle" ∧ yJ14_newLength.cls ≠ "java/lang/invoke/VarHandle" ∧ (parseMethodDescriptor yJ14_newLength.desc).map (fun d => d.parameters.length) = some 3 := by decide +kernel
theorem hd_J14_newLength : yJ14_newLength.cls = "jdk/internal/util/ArraysSupport" ∧ yJ14_newLength.cls ≠ "java/lang/invoke/MethodHandle" ∧ yJ14_newLength.cls ≠ "java/lang/invoke/VarHandle" ∧ (parseMethodDescriptor yJ14_newLength.desc).map (fun d => d.parameters.length) = some 3 := ⟨rfl, hn_J14_newLength⟩
abbrev rm_J14_newLength : Room := { frames := 1, cells := 0, slots := 0, locals := 16 }
set_option maxHeartbeats 1000000 in
theorem cg_J14_newLength (l : Launch) {G : zG} {H0 : Heap} {i0 i1 i2 : Int} (hi : 0 ≤ i0 ∧ i0 ≤ 1000 ∧ 0 ≤ i1 ∧ i1 ≤ 1000 ∧ 0 ≤ i2 ∧ i2 ≤ 1000 ∧ 1 ≤ i1) : zM l yJ14_newLength (ws_ yJ14_newLength cJ14_newLength 4 (some .int)) rm_J14_newLength G (zN H0) [.int (iI i0), .int (iI i1), .int (iI i2)] H0 (fun r H1 => r = some (.int (iI (i0 + tw_max i1 i2))) ∧ H1 = H0) (fun _ => False) := by
  refine z_enter (by decide +kernel) (Nat.le_of_ble_eq_true rfl) ?_
  intro p e s m args below meth c ls hx hb hret hml hown hts hlocks htab hnm hK hH hl
  subst hH
  have hAn : ∀ q, s.heap.size ≤ q → (zN s.heap) q := fun _ h => h
  have hS : va_S (zN s.heap) s.heap s.heap [] := va_S.rf
  have hS0 := hS
  have hsz_0 : s.heap.size ≤ s.heap.size := Nat.le_refl _
  have hl : lv_has ls 4 [(0, .int (iI i0)), (1, .int (iI i1)), (2, .int (iI i2))] := hl
  have hmx : 1 ≤ tw_max i1 i2 ∧ tw_max i1 i2 ≤ 1000 := by unfold tw_max; split <;> omega
  refine lv_iload_n hx hb dJ14_newLength_0 rfl (lv_at hl 0 rfl) ?_
  refine lv_iload_n hx hb dJ14_newLength_1 rfl (lv_at hl 1 rfl) ?_
  refine lv_iload_n hx hb dJ14_newLength_2 rfl (lv_at hl 2 rfl) ?_
  refine z_mmax (x := i1) (y := i2) hx hb (hl.1.trans hml.symm) hown (hts _ q1084) (hts _ q1085) (hts _ q63) (hts _ q1086) (Nat.le_of_ble_eq_true rfl) (Nat.le_of_ble_eq_true rfl) (Nat.le_of_ble_eq_true rfl) (Nat.le_of_ble_eq_true rfl) (by first | with_reducible assumption | omega | exact ⟨by omega, by omega⟩) (by first | with_reducible assumption | omega | exact ⟨by omega, by omega⟩) dJ14_newLength_3 ?_
  refine z_iadd (x := i0) (y := tw_max i1 i2) hx hb dJ14_newLength_6 ?_
  refine lv_istore_n (lv' := [(3, .int (iI (i0 + tw_max i1 i2))), (0, .int (iI i0)), (1, .int (iI i1)), (2, .int (iI i2))]) hx hb dJ14_newLength_7 rfl hl (by decide) rfl (fun ls hl => ?_)
  refine lv_iconst (v := iI 0) hx hb dJ14_newLength_8 rfl ?_
  refine lv_iload_n hx hb dJ14_newLength_9 rfl (lv_at hl 0 rfl) ?_
  refine z_icmp_ge (x := 0) (y := i0 + tw_max i1 i2) (tgt := 21) hx hb (by decide) (by first | with_reducible assumption | omega | exact ⟨by omega, by omega⟩) dJ14_newLength_10 (by decide) (fun c_1 => ?_) (fun c_1 => ?_)
  · exact absurd c_1 (by omega)
  · refine lv_iload_n hx hb dJ14_newLength_13 rfl (lv_at hl 0 rfl) ?_
    refine lv_ldc hx hb hown (hts _ q1087) dJ14_newLength_14 ?_
    refine z_top32 (y := 2147483639) (by decide) ?_
    refine z_icmp_gt (x := i0 + tw_max i1 i2) (y := 2147483639) (tgt := 21) hx hb (by first | with_reducible assumption | omega | exact ⟨by omega, by omega⟩) (by decide) dJ14_newLength_16 (by decide) (fun c_2 => ?_) (fun c_2 => ?_)
    · exact absurd c_2 (by omega)
    · refine lv_iload_n hx hb dJ14_newLength_19 rfl (lv_at hl 0 rfl) ?_
      exact z_iret hx hb hret rfl hlocks hS ⟨rfl, rfl⟩ (Nat.le_of_ble_eq_true rfl) (Nat.le_of_ble_eq_true rfl) dJ14_newLength_20
theorem zcpy_all {n c : Int} {el : Nat → Nat} (h0 : 0 ≤ n) (h : n ≤ c) (k : Nat) : va_cpy (zEf n el) (fun _ => none) (0 : Int).toNat (0 : Int).toNat c.toNat k = zEf n el k := by
  unfold va_cpy
  by_cases h1 : (k : Int) < c
  · rw [if_pos (by constructor <;> omega)]
    congr 1
    omega
  · rw [if_neg (by omega)]
    exact (if_neg (by omega)).symm
theorem z_recvA {G : zG} {A : Nat → Prop} {s : State} {H : Heap} {a n : Nat} {f : Nat → Option Nat} (hK : zK G A s) (ha : zAO G H a n f) : ∃ cell : Cell, H[a]? = some cell ∧ cell.vm.isStatics = false ∧ s.vm.findClass "[Ljava/lang/Object;" = some cell.cls := by
  obtain ⟨kA, comp, k1, k2, k3, k4⟩ := (hK.1.2 1 _ rfl).2
  exact ⟨_, ha, rfl, k4⟩
theorem iI_half (n : Nat) (h : n ≤ 1000) : iI ((n : Nat) : Int) >>> iI 1 = iI (((n / 2 : Nat)) : Int) := by
  rw [iI_nat, iI_nat]
  exact pk_shrN (n := n) (by omega) (iI 1) 1 (by decide)
theorem hn_J19_copyOf_2 : yJ19_copyOf_2.cls ≠ "java/lang/invoke/MethodHandle" ∧ yJ19_copyOf_2.cls ≠ "java/lang/invoke/VarHandle" ∧ (parseMethodDescriptor yJ19_copyOf_2.desc).map (fun d => d.parameters.length) = some 3 := by decide +kernel
theorem hd_J19_copyOf_2 : yJ19_copyOf_2.cls = "java/util/Arrays" ∧ yJ19_copyOf_2.cls ≠ "java/lang/invoke/MethodHandle" ∧ yJ19_copyOf_2.cls ≠ "java/lang/invoke/VarHandle" ∧ (parseMethodDescriptor yJ19_copyOf_2.desc).map (fun d => d.parameters.length) = some 3 := ⟨rfl, hn_J19_copyOf_2⟩
abbrev rm_J19_copyOf_2 : Room := { frames := 1, cells := 1, slots := 110, locals := 60 }
set_option maxHeartbeats 1000000 in
theorem cg_J19_copyOf_2 (l : Launch) {G : zG} {H0 : Heap} {ar cp : Nat} {n : Int} {el : Nat → Nat}  {N : Nat} (hA1 : zAO G H0 ar cp (zEf n el)) (hbd : 0 ≤ n ∧ n ≤ cp ∧ cp ≤ N ∧ N ≤ 110) (hE : ∀ i : Nat, (i : Int) < n → zEl G H0 (el i)) : zM l yJ19_copyOf_2 (ws_ yJ19_copyOf_2 cJ19_copyOf_2 4 (some (.array (.object "java/lang/Object")))) rm_J19_copyOf_2 G (zN H0) [.ref ar, .int (iI ((N : Nat) : Int)), .ref G.2.2.2] H0 (fun r H1 => ∃ x, r = some (.ref x) ∧ (H0.size ≤ x ∧ zAO G H1 x N (zEf n el))) (fun _ => False) := by
  refine z_enter (by decide +kernel) (Nat.le_of_ble_eq_true rfl) ?_
  intro p e s m args below meth c ls hx hb hret hml hown hts hlocks htab hnm hK hH hl
  subst hH
  have hAn : ∀ q, s.heap.size ≤ q → (zN s.heap) q := fun _ h => h
  have hS : va_S (zN s.heap) s.heap s.heap [] := va_S.rf
  have hS0 := hS
  have hsz_0 : s.heap.size ≤ s.heap.size := Nat.le_refl _
  have hl : lv_has ls 4 [(0, .ref ar), (1, .int (iI ((N : Nat) : Int))), (2, .ref G.2.2.2)] := hl
  have hE2 : ∀ (H : Heap), (∀ q : Nat, q < s.heap.size → H[q]? = s.heap[q]?) → ∀ (i y : Nat), zEf n el i = some y → zEl G H y := fun H hk i y hy => by unfold zEf at hy; split at hy; cases hy; exact (hE i (by assumption)).kept (hk _ (hE i (by assumption)).lt); cases hy
  refine lv_aload_n hx hb dJ19_copyOf_2_0 rfl (lv_at hl 2 rfl) ?_
  refine va_ldcM (mi := G.2.2.2) hx hb hown (hts _ q1150) hK.2.2.2.2.2.1 dJ19_copyOf_2_1 ?_
  refine lv_acmp_ne (rx := some G.2.2.2) (ry := some G.2.2.2) (tgt := 13) hx hb dJ19_copyOf_2_3 (by decide) (fun c_1 => ?_) (fun c_1 => ?_)
  · exact absurd rfl c_1
  · refine lv_iload_n hx hb dJ19_copyOf_2_6 rfl (lv_at hl 1 rfl) ?_
    refine z_newAO (N := N) hx hb hts hown q1152 hK hS (by omega) (by omega) (Nat.le_of_ble_eq_true rfl) (by show _ ≤ 110; omega) dJ19_copyOf_2_7 (fun q_2 H_3 hq_2 ho_4 hz_5 hk_6 hS1 => ?_)
    refine W.widen (k := 1) (n := 110) (Nat.le_of_ble_eq_true rfl) (by omega) ?_
    have hS := hS1
    have ne_7 : ar ≠ q_2 := by have := hA1.lt; omega
    have hf_8 := va_at.kept hA1 (hk_6 _ hA1.lt)
    have hsz_9 : s.heap.size ≤ H_3.size := hS.1
    have hN_10 : ∀ q : Nat, q < s.heap.size → H_3[q]? = s.heap[q]? := fun q hq => (hk_6 q (Nat.lt_of_lt_of_le hq hS0.1)).trans ((fun _ _ => rfl) q hq)
    have hS0 := hS
    have hA_q_2 := hAn q_2 (by omega)
    refine lv_goto (tgt := 24) hx hb dJ19_copyOf_2_10 (by decide) ?_
    refine lv_astore_n (lv' := [(3, .ref q_2), (0, .ref ar), (1, .int (iI ((N : Nat) : Int))), (2, .ref G.2.2.2)]) hx hb dJ19_copyOf_2_24 rfl hl (by decide) rfl (fun ls hl => ?_)
    refine lv_aload_n hx hb dJ19_copyOf_2_25 rfl (lv_at hl 1 rfl) ?_
    refine lv_iconst (v := iI 0) hx hb dJ19_copyOf_2_26 rfl ?_
    refine lv_aload_n hx hb dJ19_copyOf_2_27 rfl (lv_at hl 0 rfl) ?_
    refine lv_iconst (v := iI 0) hx hb dJ19_copyOf_2_28 rfl ?_
    refine lv_aload_n hx hb dJ19_copyOf_2_29 rfl (lv_at hl 1 rfl) ?_
    refine z_alenA hx hb hK hf_8 dJ19_copyOf_2_30 ?_
    refine lv_iload_n hx hb dJ19_copyOf_2_31 rfl (lv_at hl 2 rfl) ?_
    refine z_mmin (x := ((cp : Nat) : Int)) (y := ((N : Nat) : Int)) hx hb (hl.1.trans hml.symm) hown (hts _ q1153) (hts _ q550) (hts _ q63) (hts _ q551) (Nat.le_of_ble_eq_true rfl) (Nat.le_of_ble_eq_true rfl) (Nat.le_of_ble_eq_true rfl) (Nat.le_of_ble_eq_true rfl) (by first | with_reducible assumption | omega | exact ⟨by omega, by omega⟩) (by first | with_reducible assumption | omega | exact ⟨by omega, by omega⟩) dJ19_copyOf_2_32 ?_
    refine z_top (x := tw_min ((cp : Nat) : Int) ((N : Nat) : Int)) (y := ((cp : Nat) : Int)) (by unfold tw_min; split <;> omega) ?_
    have hE2 := hE2 _ hN_10
    refine z_copyA (n := ((cp : Nat) : Int)) (sp := 0) (dp := 0) hx hb (hl.1.trans hml.symm) hts hown q1154 hK hS hA_q_2 hf_8 ho_4 (by omega) (by omega) (by omega) (by omega) (by omega) (by omega) (by omega) (fun i hi y hy => z_anyEl hK ((hE2 i y (by simpa using hy)))) (Nat.le_of_ble_eq_true rfl) (Nat.le_of_ble_eq_true rfl) dJ19_copyOf_2_35 (fun H9 locs9 ho9 hz9 hk9 hS1 => ?_)
    have hS := hS1
    have ho10 := zAO_congr ho9 (fun k _ => zcpy_all (by omega) (by omega) k)
    refine lv_aload_n hx hb dJ19_copyOf_2_38 rfl (lv_at hl 0 rfl) ?_
    exact z_aret (r := some q_2) hx hb hret (Or.inr ⟨_, rfl⟩) hlocks hS ⟨_, rfl, by omega, ho10⟩ (Nat.le_of_ble_eq_true rfl) (Nat.le_of_ble_eq_true rfl) dJ19_copyOf_2_39
theorem hn_J19_copyOf : yJ19_copyOf.cls ≠ "java/lang/invoke/MethodHandle" ∧ yJ19_copyOf.cls ≠ "java/lang/invoke/VarHandle" ∧ (parseMethodDescriptor yJ19_copyOf.desc).map (fun d => d.parameters.length) = some 2 := by decide +kernel
theorem hd_J19_copyOf : yJ19_copyOf.cls = "java/util/Arrays" ∧ yJ19_copyOf.cls ≠ "java/lang/invoke/MethodHandle" ∧ yJ19_copyOf.cls ≠ "java/lang/invoke/VarHandle" ∧ (parseMethodDescriptor yJ19_copyOf.desc).map (fun d => d.parameters.length) = some 2 := ⟨rfl, hn_J19_copyOf⟩
abbrev rm_J19_copyOf : Room := { frames := 2, cells := 1, slots := 110, locals := 83 }
set_option maxHeartbeats 1000000 in
theorem cg_J19_copyOf (l : Launch) {G : zG} {H0 : Heap} {ar cp : Nat} {n : Int} {el : Nat → Nat}  {N : Nat} (hA1 : zAO G H0 ar cp (zEf n el)) (hbd : 0 ≤ n ∧ n ≤ cp ∧ cp ≤ N ∧ N ≤ 110) (hE : ∀ i : Nat, (i : Int) < n → zEl G H0 (el i)) : zM l yJ19_copyOf (ws_ yJ19_copyOf cJ19_copyOf 2 (some (.array (.object "java/lang/Object")))) rm_J19_copyOf G (zN H0) [.ref ar, .int (iI ((N : Nat) : Int))] H0 (fun r H1 => ∃ x, r = some (.ref x) ∧ (H0.size ≤ x ∧ zAO G H1 x N (zEf n el))) (fun _ => False) := by
  refine z_enter (by decide +kernel) (Nat.le_of_ble_eq_true rfl) ?_
  intro p e s m args below meth c ls hx hb hret hml hown hts hlocks htab hnm hK hH hl
  subst hH
  have hAn : ∀ q, s.heap.size ≤ q → (zN s.heap) q := fun _ h => h
  have hS : va_S (zN s.heap) s.heap s.heap [] := va_S.rf
  have hS0 := hS
  have hsz_0 : s.heap.size ≤ s.heap.size := Nat.le_refl _
  have hl : lv_has ls 2 [(0, .ref ar), (1, .int (iI ((N : Nat) : Int)))] := hl
  refine lv_aload_n hx hb dJ19_copyOf_0 rfl (lv_at hl 0 rfl) ?_
  refine lv_iload_n hx hb dJ19_copyOf_1 rfl (lv_at hl 1 rfl) ?_
  refine lv_aload_n hx hb dJ19_copyOf_2 rfl (lv_at hl 0 rfl) ?_
  refine va_getC (C := "[Ljava/lang/Object;") (mi := G.2.2.2) hx hb (hml.trans hl.1.symm) hown (hts _ q1094) (va_Nw.use rfl (hK.2.1 _ q2740 rfl)) (hts _ q2739) (hts _ q1095) (hts _ q1146) hK.2.2.2.2.2.1 (z_recvA hK hA1) (Nat.le_of_ble_eq_true rfl) (Nat.le_of_ble_eq_true rfl) dJ19_copyOf_3 ?_
  refine z_callX (vx_runS (As := [.ref ar, .int (iI ((N : Nat) : Int)), .ref G.2.2.2]) (rest := []) ⟨hx, hb, hml, hown, hts⟩ (cg_J19_copyOf_2 l (N := N) hA1 (by omega) hE) (va_cwS 3 hts (lw_S q1147 q1148 q74 q1149) rfl rfl rfl hn_J19_copyOf_2 ⟨Nat.le_of_ble_eq_true rfl, Nat.le_of_ble_eq_true rfl⟩) (z_preS hK hS (zN_le hAn hS)) rfl rfl hl.1 rfl (lv_room (Nat.le_of_ble_eq_true rfl)) dJ19_copyOf_6 ⟨Nat.le_of_ble_eq_true rfl, Nat.le_of_ble_eq_true rfl⟩) hS (zN_le hAn hS) (fun x_1 H_2 locs hp hz hk hS1 => ?_)
  obtain ⟨hp_3, hp_4⟩ := hp
  have hS := hS1
  have hk_5 := fun (q : Nat) (hq : q < Array.size s.heap) => hk q hq (Nat.not_le.mpr hq)
  have ne_6 : ar ≠ x_1 := by have := hA1.lt; omega
  have hf_7 := va_at.kept hA1 (hk_5 _ hA1.lt)
  have hsz_8 : s.heap.size ≤ H_2.size := hS.1
  have hN_9 : ∀ q : Nat, q < s.heap.size → H_2[q]? = s.heap[q]? := fun q hq => (hk_5 q (Nat.lt_of_lt_of_le hq hS0.1)).trans ((fun _ _ => rfl) q hq)
  have hS0 := hS
  exact z_aret (r := some x_1) hx hb hret (Or.inr ⟨_, rfl⟩) hlocks hS ⟨_, rfl, by omega, hp_4⟩ (Nat.le_of_ble_eq_true rfl) (Nat.le_of_ble_eq_true rfl) dJ19_copyOf_9

set_option maxRecDepth 100000
theorem hn_X3_size : yX3_size.cls ≠ "java/lang/invoke/MethodHandle" ∧ yX3_size.cls ≠ "java/lang/invoke/VarHandle" ∧ (parseMethodDescriptor yX3_size.desc).map (fun d => d.parameters.length) = some 0 := by decide +kernel
theorem hd_X3_size : yX3_size.cls = "CheckoutDesk$Row" ∧ yX3_size.cls ≠ "java/lang/invoke/MethodHandle" ∧ yX3_size.cls ≠ "java/lang/invoke/VarHandle" ∧ (parseMethodDescriptor yX3_size.desc).map (fun d => d.parameters.length) = some 0 := ⟨rfl, hn_X3_size⟩
abbrev rm_X3_size : Room := { frames := 2, cells := 0, slots := 0, locals := 36 }
set_option maxHeartbeats 1000000 in
theorem cg_X3_size (l : Launch) {G : zG} {H0 : Heap} {rw_ al ar cp : Nat} {mo mc n : Int} {el : Nat → Nat} (h1 : zO G H0 rw_ 2 [.ref al, .int (iI mo)]) (hL : zLst G H0 al ar mc n cp el) : zM l yX3_size (ws_ yX3_size cX3_size 1 (some .int)) rm_X3_size G (zN H0) [.ref rw_] H0 (fun r H1 => r = some (.int (iI n)) ∧ H1 = H0) (fun _ => False) := by
  refine z_enter (by decide +kernel) (Nat.le_of_ble_eq_true rfl) ?_
  intro p e s m args below meth c ls hx hb hret hml hown hts hlocks htab hnm hK hH hl
  subst hH
  have hAn : ∀ q, s.heap.size ≤ q → (zN s.heap) q := fun _ h => h
  have hS : va_S (zN s.heap) s.heap s.heap [] := va_S.rf
  have hS0 := hS
  have hsz_0 : s.heap.size ≤ s.heap.size := Nat.le_refl _
  have hl : lv_has ls 1 [(0, .ref rw_)] := hl
  have hbd := hL.2.2.1
  have hcp := hL.2.2.2.1
  have hne := hL.2.2.2.2
  refine lv_aload_n hx hb dX3_size_0 rfl (lv_at hl 0 rfl) ?_
  refine z_get (k := 0) hx hb hts in_X3 hown hK h1 rfl (by decide) q158 rfl (v := .ref al) rfl dX3_size_1 ?_
  refine z_callp (vx_runV (As := []) (rest := []) ⟨hx, hb, hml, hown, hts⟩ (cg_J2_size l hL.1) (cwV 0 hts (lw_V q235 q216 q217 q46 q218) rfl rfl rfl hd_J2_size ⟨Nat.le_of_ble_eq_true rfl, Nat.le_of_ble_eq_true rfl⟩) (z_preV hK hS (zN_le hAn hS) hL.1 rfl rfl) rfl rfl hl.1 rfl (lv_room (Nat.le_of_ble_eq_true rfl)) dX3_size_4 ⟨Nat.le_of_ble_eq_true rfl, Nat.le_of_ble_eq_true rfl⟩) hS (zN_le hAn hS) rfl rfl (fun locs hS => ?_)
  exact z_iret hx hb hret rfl hlocks hS ⟨rfl, rfl⟩ (Nat.le_of_ble_eq_true rfl) (Nat.le_of_ble_eq_true rfl) dX3_size_7
theorem hn_X3_hasRoom : yX3_hasRoom.cls ≠ "java/lang/invoke/MethodHandle" ∧ yX3_hasRoom.cls ≠ "java/lang/invoke/VarHandle" ∧ (parseMethodDescriptor yX3_hasRoom.desc).map (fun d => d.parameters.length) = some 0 := by decide +kernel
theorem hd_X3_hasRoom : yX3_hasRoom.cls = "CheckoutDesk$Row" ∧ yX3_hasRoom.cls ≠ "java/lang/invoke/MethodHandle" ∧ yX3_hasRoom.cls ≠ "java/lang/invoke/VarHandle" ∧ (parseMethodDescriptor yX3_hasRoom.desc).map (fun d => d.parameters.length) = some 0 := ⟨rfl, hn_X3_hasRoom⟩
abbrev rm_X3_hasRoom : Room := { frames := 2, cells := 0, slots := 0, locals := 36 }
set_option maxHeartbeats 1000000 in
theorem cg_X3_hasRoom (l : Launch) {G : zG} {H0 : Heap} {rw_ al ar cp : Nat} {mo mc n : Int} {el : Nat → Nat} (h1 : zO G H0 rw_ 2 [.ref al, .int (iI mo)]) (hL : zLst G H0 al ar mc n cp el) (hmo : inR mo) : zM l yX3_hasRoom (ws_ yX3_hasRoom cX3_hasRoom 1 (some .boolean)) rm_X3_hasRoom G (zN H0) [.ref rw_] H0 (fun r H1 => r = some (.int (iI (bI (decide (n < mo))))) ∧ H1 = H0) (fun _ => False) := by
  refine z_enter (by decide +kernel) (Nat.le_of_ble_eq_true rfl) ?_
  intro p e s m args below meth c ls hx hb hret hml hown hts hlocks htab hnm hK hH hl
  subst hH
  have hAn : ∀ q, s.heap.size ≤ q → (zN s.heap) q := fun _ h => h
  have hS : va_S (zN s.heap) s.heap s.heap [] := va_S.rf
  have hS0 := hS
  have hsz_0 : s.heap.size ≤ s.heap.size := Nat.le_refl _
  have hl : lv_has ls 1 [(0, .ref rw_)] := hl
  have hbd := hL.2.2.1
  have hcp := hL.2.2.2.1
  have hne := hL.2.2.2.2
  refine lv_aload_n hx hb dX3_hasRoom_0 rfl (lv_at hl 0 rfl) ?_
  refine z_get (k := 0) hx hb hts in_X3 hown hK h1 rfl (by decide) q158 rfl (v := .ref al) rfl dX3_hasRoom_1 ?_
  refine z_callp (vx_runV (As := []) (rest := []) ⟨hx, hb, hml, hown, hts⟩ (cg_J2_size l hL.1) (cwV 0 hts (lw_V q235 q216 q217 q46 q218) rfl rfl rfl hd_J2_size ⟨Nat.le_of_ble_eq_true rfl, Nat.le_of_ble_eq_true rfl⟩) (z_preV hK hS (zN_le hAn hS) hL.1 rfl rfl) rfl rfl hl.1 rfl (lv_room (Nat.le_of_ble_eq_true rfl)) dX3_hasRoom_4 ⟨Nat.le_of_ble_eq_true rfl, Nat.le_of_ble_eq_true rfl⟩) hS (zN_le hAn hS) rfl rfl (fun locs hS => ?_)
  refine lv_aload_n hx hb dX3_hasRoom_7 rfl (lv_at hl 0 rfl) ?_
  refine z_get (k := 1) hx hb hts in_X3 hown hK h1 rfl (by decide) q159 rfl (v := .int (iI mo)) rfl dX3_hasRoom_8 ?_
  refine z_join (pc2 := 19) (nL := 1) (lv := [(0, .ref rw_)]) (st2 := [.int (iI (bI (decide (n < mo))))]) hS (fun J_1 => ?_) (fun locs ls hS hl => ?_)
  · refine z_icmp_ge (x := n) (y := mo) (tgt := 18) hx hb (by first | with_reducible assumption | omega | exact ⟨by omega, by omega⟩) (by first | with_reducible assumption | omega | exact ⟨by omega, by omega⟩) dX3_hasRoom_11 (by decide) (fun c_2 => ?_) (fun c_2 => ?_)
    · refine lv_iconst (v := iI 0) hx hb dX3_hasRoom_18 rfl ?_
      refine z_top (x := 0) (y := bI (decide (n < mo))) (by simp [bI, c_2]) ?_
      exact J_1 _ ls hS (lv_sub hl [0] rfl)
    · refine lv_iconst (v := iI 1) hx hb dX3_hasRoom_14 rfl ?_
      refine lv_goto (tgt := 19) hx hb dX3_hasRoom_15 (by decide) ?_
      refine z_top (x := 1) (y := bI (decide (n < mo))) (by simp [bI, c_2]) ?_
      exact J_1 _ ls hS (lv_sub hl [0] rfl)
  · exact z_iret hx hb hret (z_nar _) hlocks hS ⟨rfl, rfl⟩ (Nat.le_of_ble_eq_true rfl) (Nat.le_of_ble_eq_true rfl) dX3_hasRoom_19
theorem hn_X3_get : yX3_get.cls ≠ "java/lang/invoke/MethodHandle" ∧ yX3_get.cls ≠ "java/lang/invoke/VarHandle" ∧ (parseMethodDescriptor yX3_get.desc).map (fun d => d.parameters.length) = some 1 := by decide +kernel
theorem hd_X3_get : yX3_get.cls = "CheckoutDesk$Row" ∧ yX3_get.cls ≠ "java/lang/invoke/MethodHandle" ∧ yX3_get.cls ≠ "java/lang/invoke/VarHandle" ∧ (parseMethodDescriptor yX3_get.desc).map (fun d => d.parameters.length) = some 1 := ⟨rfl, hn_X3_get⟩
abbrev rm_X3_get : Room := { frames := 9, cells := 0, slots := 0, locals := 140 }
set_option maxHeartbeats 1000000 in
theorem cg_X3_get (l : Launch) {G : zG} {H0 : Heap} {rw_ al ar cp : Nat} {mo mc n : Int} {el : Nat → Nat} (h1 : zO G H0 rw_ 2 [.ref al, .int (iI mo)]) (hL : zLst G H0 al ar mc n cp el) {i0 : Int} (hi : inR i0) {x0 : Nat} (hib : 0 ≤ i0 ∧ i0 < n) (hx0 : el i0.toNat = x0) : zM l yX3_get (ws_ yX3_get cX3_get 2 (some (.object "java/lang/Object"))) rm_X3_get G (zN H0) [.ref rw_, .int (iI i0)] H0 (fun r H1 => r = some (.ref x0) ∧ H1 = H0) (fun _ => False) := by
  refine z_enter (by decide +kernel) (Nat.le_of_ble_eq_true rfl) ?_
  intro p e s m args below meth c ls hx hb hret hml hown hts hlocks htab hnm hK hH hl
  subst hH
  have hAn : ∀ q, s.heap.size ≤ q → (zN s.heap) q := fun _ h => h
  have hS : va_S (zN s.heap) s.heap s.heap [] := va_S.rf
  have hS0 := hS
  have hsz_0 : s.heap.size ≤ s.heap.size := Nat.le_refl _
  have hl : lv_has ls 2 [(0, .ref rw_), (1, .int (iI i0))] := hl
  have hbd := hL.2.2.1
  have hcp := hL.2.2.2.1
  have hne := hL.2.2.2.2
  refine lv_iload_n hx hb dX3_get_0 rfl (lv_at hl 1 rfl) ?_
  refine lv_iconst (v := iI 0) hx hb dX3_get_1 rfl ?_
  refine lv_aload_n hx hb dX3_get_2 rfl (lv_at hl 0 rfl) ?_
  refine z_get (k := 0) hx hb hts in_X3 hown hK h1 rfl (by decide) q158 rfl (v := .ref al) rfl dX3_get_3 ?_
  refine z_callp (vx_runV (As := []) (rest := [.int (iI 0), .int (iI i0)]) ⟨hx, hb, hml, hown, hts⟩ (cg_J2_size l hL.1) (cwV 0 hts (lw_V q235 q216 q217 q46 q218) rfl rfl rfl hd_J2_size ⟨Nat.le_of_ble_eq_true rfl, Nat.le_of_ble_eq_true rfl⟩) (z_preV hK hS (zN_le hAn hS) hL.1 rfl rfl) rfl rfl hl.1 rfl (lv_room (Nat.le_of_ble_eq_true rfl)) dX3_get_6 ⟨Nat.le_of_ble_eq_true rfl, Nat.le_of_ble_eq_true rfl⟩) hS (zN_le hAn hS) rfl rfl (fun locs hS => ?_)
  refine lv_iconst (v := iI 1) hx hb dX3_get_9 rfl ?_
  refine z_isub (x := n) (y := 1) hx hb dX3_get_10 ?_
  refine z_callp (vx_runSN (As := [.int (iI i0), .int (iI 0), .int (iI (n - 1))]) (rest := []) ⟨hx, hb, hml, hown, hts⟩ (cg_X1_inRange l (x0 := i0) (x1 := 0) (x2 := n - 1) (by first | with_reducible assumption | omega | exact ⟨by omega, by omega⟩) (by decide) (by first | with_reducible assumption | omega | exact ⟨by omega, by omega⟩)) ⟨va_cnB 3 hts (lw_meth q297) rfl rfl rfl (hK.2.1 _ q295 rfl) (hts _ q43) hn_X1_inRange ⟨Nat.le_of_ble_eq_true rfl, Nat.le_of_ble_eq_true rfl⟩, hts _ q296, trivial⟩ (z_preS hK hS (zN_le hAn hS)) rfl rfl hl.1 rfl (lv_room (Nat.le_of_ble_eq_true rfl)) dX3_get_11 ⟨Nat.le_of_ble_eq_true rfl, Nat.le_of_ble_eq_true rfl⟩) hS (zN_le hAn hS) rfl rfl (fun locs hS => ?_)
  have c_1 : (tw_lies i0 0 (n - 1)) = true := tw_lies_iff.mpr ⟨by omega, by omega⟩
  refine z_callp0 (vx_runSN (As := [.int (iI (bI (tw_lies i0 0 (n - 1))))]) (rest := []) ⟨hx, hb, hml, hown, hts⟩ (cg_X1_requireIndex l (b0 := tw_lies i0 0 (n - 1)) c_1) ⟨va_cnB 1 hts (lw_meth q300) rfl rfl rfl (hK.2.1 _ q298 rfl) (hts _ q43) hn_X1_requireIndex ⟨Nat.le_of_ble_eq_true rfl, Nat.le_of_ble_eq_true rfl⟩, hts _ q299, trivial⟩ (z_preS hK hS (zN_le hAn hS)) rfl rfl hl.1 rfl (lv_room (Nat.le_of_ble_eq_true rfl)) dX3_get_14 ⟨Nat.le_of_ble_eq_true rfl, Nat.le_of_ble_eq_true rfl⟩) hS (zN_le hAn hS) rfl rfl (fun locs hS => ?_)
  refine lv_aload_n hx hb dX3_get_17 rfl (lv_at hl 0 rfl) ?_
  refine z_get (k := 0) hx hb hts in_X3 hown hK h1 rfl (by decide) q158 rfl (v := .ref al) rfl dX3_get_18 ?_
  refine lv_iload_n hx hb dX3_get_21 rfl (lv_at hl 1 rfl) ?_
  refine z_callp (vx_runV (As := [.int (iI i0)]) (rest := []) ⟨hx, hb, hml, hown, hts⟩ (cg_J2_get l hL (i0 := i0) (by first | with_reducible assumption | omega | exact ⟨by omega, by omega⟩)) (cwV 1 hts (lw_V q254 q255 q256 q46 q257) rfl rfl rfl hd_J2_get ⟨Nat.le_of_ble_eq_true rfl, Nat.le_of_ble_eq_true rfl⟩) (z_preV hK hS (zN_le hAn hS) hL.1 rfl rfl) rfl rfl hl.1 rfl (lv_room (Nat.le_of_ble_eq_true rfl)) dX3_get_22 ⟨Nat.le_of_ble_eq_true rfl, Nat.le_of_ble_eq_true rfl⟩) hS (zN_le hAn hS) rfl rfl (fun locs hS => ?_)
  exact z_aret (r := some (el (i0).toNat)) hx hb hret (Or.inl ⟨_, rfl⟩) hlocks hS ⟨by rw [← hx0]; rfl, rfl⟩ (Nat.le_of_ble_eq_true rfl) (Nat.le_of_ble_eq_true rfl) dX3_get_25
abbrev rx_cx_X3_get : Room := { frames := 9, cells := 1, slots := 6, locals := 140 }
set_option maxHeartbeats 1000000 in
theorem cx_X3_get (l : Launch) (hst : l.stackTraces = false) {G : zG} {H0 : Heap} {rw_ al ar cp : Nat} {mo mc n : Int} {el : Nat → Nat} (h1 : zO G H0 rw_ 2 [.ref al, .int (iI mo)]) (hL : zLst G H0 al ar mc n cp el) {i0 : Int} (hi : inR i0) (hib : ¬ (0 ≤ i0 ∧ i0 < n)) : zM l yX3_get (ws_ yX3_get cX3_get 2 (some (.object "java/lang/Object"))) rx_cx_X3_get G (zN H0) [.ref rw_, .int (iI i0)] H0 (fun _ _ => False) (fun E => E = "java/lang/IndexOutOfBoundsException") := by
  refine z_enter (by decide +kernel) (Nat.le_of_ble_eq_true rfl) ?_
  intro p e s m args below meth c ls hx hb hret hml hown hts hlocks htab hnm hK hH hl
  subst hH
  have hAn : ∀ q, s.heap.size ≤ q → (zN s.heap) q := fun _ h => h
  have hS : va_S (zN s.heap) s.heap s.heap [] := va_S.rf
  have hS0 := hS
  have hsz_0 : s.heap.size ≤ s.heap.size := Nat.le_refl _
  have hl : lv_has ls 2 [(0, .ref rw_), (1, .int (iI i0))] := hl
  have hbd := hL.2.2.1
  have hcp := hL.2.2.2.1
  have hne := hL.2.2.2.2
  refine lv_iload_n hx hb dX3_get_0 rfl (lv_at hl 1 rfl) ?_
  refine lv_iconst (v := iI 0) hx hb dX3_get_1 rfl ?_
  refine lv_aload_n hx hb dX3_get_2 rfl (lv_at hl 0 rfl) ?_
  refine z_get (k := 0) hx hb hts in_X3 hown hK h1 rfl (by decide) q158 rfl (v := .ref al) rfl dX3_get_3 ?_
  refine z_callp (vx_runV (As := []) (rest := [.int (iI 0), .int (iI i0)]) ⟨hx, hb, hml, hown, hts⟩ (cg_J2_size l hL.1) (cwV 0 hts (lw_V q235 q216 q217 q46 q218) rfl rfl rfl hd_J2_size ⟨Nat.le_of_ble_eq_true rfl, Nat.le_of_ble_eq_true rfl⟩) (z_preV hK hS (zN_le hAn hS) hL.1 rfl rfl) rfl rfl hl.1 rfl (lv_room (Nat.le_of_ble_eq_true rfl)) dX3_get_6 ⟨Nat.le_of_ble_eq_true rfl, Nat.le_of_ble_eq_true rfl⟩) hS (zN_le hAn hS) rfl rfl (fun locs hS => ?_)
  refine lv_iconst (v := iI 1) hx hb dX3_get_9 rfl ?_
  refine z_isub (x := n) (y := 1) hx hb dX3_get_10 ?_
  refine z_callp (vx_runSN (As := [.int (iI i0), .int (iI 0), .int (iI (n - 1))]) (rest := []) ⟨hx, hb, hml, hown, hts⟩ (cg_X1_inRange l (x0 := i0) (x1 := 0) (x2 := n - 1) (by first | with_reducible assumption | omega | exact ⟨by omega, by omega⟩) (by decide) (by first | with_reducible assumption | omega | exact ⟨by omega, by omega⟩)) ⟨va_cnB 3 hts (lw_meth q297) rfl rfl rfl (hK.2.1 _ q295 rfl) (hts _ q43) hn_X1_inRange ⟨Nat.le_of_ble_eq_true rfl, Nat.le_of_ble_eq_true rfl⟩, hts _ q296, trivial⟩ (z_preS hK hS (zN_le hAn hS)) rfl rfl hl.1 rfl (lv_room (Nat.le_of_ble_eq_true rfl)) dX3_get_11 ⟨Nat.le_of_ble_eq_true rfl, Nat.le_of_ble_eq_true rfl⟩) hS (zN_le hAn hS) rfl rfl (fun locs hS => ?_)
  have c_1 : ¬ ((tw_lies i0 0 (n - 1)) = true) := fun q => hib (by have := tw_lies_iff.mp q; omega)
  refine z_callB (vx_runSN (As := [.int (iI (bI (tw_lies i0 0 (n - 1))))]) (rest := []) ⟨hx, hb, hml, hown, hts⟩ (cx_X1_requireIndex l hst (b0 := tw_lies i0 0 (n - 1)) c_1) ⟨va_cnB 1 hts (lw_meth q300) rfl rfl rfl (hK.2.1 _ q298 rfl) (hts _ q43) hn_X1_requireIndex ⟨Nat.le_of_ble_eq_true rfl, Nat.le_of_ble_eq_true rfl⟩, hts _ q299, trivial⟩ (z_preS hK hS (zN_le hAn hS)) rfl rfl hl.1 rfl (lv_room (Nat.le_of_ble_eq_true rfl)) dX3_get_14 ⟨Nat.le_of_ble_eq_true rfl, Nat.le_of_ble_eq_true rfl⟩) hS (zN_le hAn hS) (fun _ _ => rfl) htab hlocks (fun E hE9 => hE9) (by first | exact Nat.le_of_ble_eq_true rfl | omega) (by first | exact Nat.le_of_ble_eq_true rfl | omega)
theorem hn_X3_add : yX3_add.cls ≠ "java/lang/invoke/MethodHandle" ∧ yX3_add.cls ≠ "java/lang/invoke/VarHandle" ∧ (parseMethodDescriptor yX3_add.desc).map (fun d => d.parameters.length) = some 1 := by decide +kernel
theorem hd_X3_add : yX3_add.cls = "CheckoutDesk$Row" ∧ yX3_add.cls ≠ "java/lang/invoke/MethodHandle" ∧ yX3_add.cls ≠ "java/lang/invoke/VarHandle" ∧ (parseMethodDescriptor yX3_add.desc).map (fun d => d.parameters.length) = some 1 := ⟨rfl, hn_X3_add⟩
abbrev rm_X3_add : Room := { frames := 7, cells := 1, slots := 110, locals := 191 }
set_option maxHeartbeats 1000000 in
theorem cg_X3_add (l : Launch) {G : zG} {H0 : Heap} {rw_ al ar cp : Nat} {mo mc n : Int} {el : Nat → Nat} (h1 : zO G H0 rw_ 2 [.ref al, .int (iI mo)]) (hL : zLst G H0 al ar mc n cp el) {y : Nat} (hn : n ≤ 70) (hE : ∀ i : Nat, (i : Int) < n → zEl G H0 (el i)) (hy : zEl G H0 y) (hya : y ≠ al) (hEa : ∀ i : Nat, (i : Int) < n → el i ≠ al) (hra : rw_ ≠ al) (hrr : rw_ ≠ ar) : zM l yX3_add (ws_ yX3_add cX3_add 2 (some .int)) rm_X3_add G (zAa al ar n cp H0) [.ref rw_, .ref y] H0 (fun r H1 => r = some (.int (iI n)) ∧ ∃ (a1 c1 : Nat), zLst G H1 al a1 (mc + 1) (n + 1) c1 (fun i => if (i : Int) = n then y else el i) ∧ (a1 = ar ∧ c1 = cp ∧ n < cp ∨ H0.size ≤ a1) ∧ c1 ≤ max cp 110) (fun _ => False) := by
  refine z_enter (by decide +kernel) (Nat.le_of_ble_eq_true rfl) ?_
  intro p e s m args below meth c ls hx hb hret hml hown hts hlocks htab hnm hK hH hl
  subst hH
  have hAn : ∀ q, s.heap.size ≤ q → (zAa al ar n cp s.heap) q := fun _ h => Or.inr (Or.inr h)
  have hS : va_S (zAa al ar n cp s.heap) s.heap s.heap [] := va_S.rf
  have hS0 := hS
  have hsz_0 : s.heap.size ≤ s.heap.size := Nat.le_refl _
  have hl : lv_has ls 2 [(0, .ref rw_), (1, .ref y)] := hl
  have hbd := hL.2.2.1
  have hcp := hL.2.2.2.1
  have hne := hL.2.2.2.2
  have hA_al : zAa al ar n cp s.heap al := Or.inl rfl
  have hA_ar : n < cp → zAa al ar n cp s.heap ar := fun h => Or.inr (Or.inl ⟨h, rfl⟩)
  have hltr := h1.lt
  refine lv_aload_n hx hb dX3_add_0 rfl (lv_at hl 0 rfl) ?_
  refine z_get (k := 0) hx hb hts in_X3 hown hK h1 rfl (by decide) q158 rfl (v := .ref al) rfl dX3_add_1 ?_
  refine lv_aload_n hx hb dX3_add_4 rfl (lv_at hl 1 rfl) ?_
  refine z_callR (vx_runV (As := [.ref y]) (rest := []) ⟨hx, hb, hml, hown, hts⟩ (cg_J2_add l hL hn hE hy hya hEa) (cwV 1 hts (lw_V q1065 q1066 q1067 q46 q1068) rfl rfl rfl hd_J2_add ⟨Nat.le_of_ble_eq_true rfl, Nat.le_of_ble_eq_true rfl⟩) (z_preV hK hS (zAa_le hA_al hA_ar hAn hS) hL.1 rfl rfl) rfl rfl hl.1 rfl (lv_room (Nat.le_of_ble_eq_true rfl)) dX3_add_5 ⟨Nat.le_of_ble_eq_true rfl, Nat.le_of_ble_eq_true rfl⟩) hS (zAa_le hA_al hA_ar hAn hS) (fun H9 locs hp _ hk9 hS1 => ?_)
  obtain ⟨a1, c1, hp1, hp2, hp3⟩ := hp
  have hS := hS1
  have h19 := va_at.kept h1 (hk9 _ h1.lt (fun q => q.elim hra (fun q => q.elim (fun q => hrr q.2) (fun q => absurd hltr (Nat.not_lt.mpr q)))))
  refine lv_pop hx hb dX3_add_8 rfl ?_
  refine lv_aload_n hx hb dX3_add_9 rfl (lv_at hl 0 rfl) ?_
  refine z_get (k := 0) hx hb hts in_X3 hown hK h19 rfl (by decide) q158 rfl (v := .ref al) rfl dX3_add_10 ?_
  refine z_callp (vx_runV (As := []) (rest := []) ⟨hx, hb, hml, hown, hts⟩ (cg_J2_size l hp1.1) (cwV 0 hts (lw_V q235 q216 q217 q46 q218) rfl rfl rfl hd_J2_size ⟨Nat.le_of_ble_eq_true rfl, Nat.le_of_ble_eq_true rfl⟩) (z_preV hK hS (zN_le hAn hS) hp1.1 rfl rfl) rfl rfl hl.1 rfl (lv_room (Nat.le_of_ble_eq_true rfl)) dX3_add_13 ⟨Nat.le_of_ble_eq_true rfl, Nat.le_of_ble_eq_true rfl⟩) hS (zN_le hAn hS) rfl rfl (fun locs hS => ?_)
  refine lv_iconst (v := iI 1) hx hb dX3_add_16 rfl ?_
  refine z_isub (x := n + 1) (y := 1) hx hb dX3_add_17 ?_
  refine z_top (x := n + 1 - 1) (y := n) (by omega) ?_
  exact z_iret hx hb hret rfl hlocks hS ⟨rfl, a1, c1, hp1, (by rcases hp2 with h | h; exact Or.inl h; exact Or.inr (by omega)), hp3⟩ (Nat.le_of_ble_eq_true rfl) (Nat.le_of_ble_eq_true rfl) dX3_add_18
theorem hn_X3_remove : yX3_remove.cls ≠ "java/lang/invoke/MethodHandle" ∧ yX3_remove.cls ≠ "java/lang/invoke/VarHandle" ∧ (parseMethodDescriptor yX3_remove.desc).map (fun d => d.parameters.length) = some 1 := by decide +kernel
theorem hd_X3_remove : yX3_remove.cls = "CheckoutDesk$Row" ∧ yX3_remove.cls ≠ "java/lang/invoke/MethodHandle" ∧ yX3_remove.cls ≠ "java/lang/invoke/VarHandle" ∧ (parseMethodDescriptor yX3_remove.desc).map (fun d => d.parameters.length) = some 1 := ⟨rfl, hn_X3_remove⟩
abbrev rm_X3_remove : Room := { frames := 4, cells := 0, slots := 0, locals := 106 }
set_option maxHeartbeats 1000000 in
theorem cg_X3_remove (l : Launch) {G : zG} {H0 : Heap} {rw_ al ar cp : Nat} {mo mc n : Int} {el : Nat → Nat} (h1 : zO G H0 rw_ 2 [.ref al, .int (iI mo)]) (hL : zLst G H0 al ar mc n cp el) {i0 : Int} (hi : 0 ≤ i0 ∧ i0 < n) (hE : ∀ i : Nat, (i : Int) < n → zEl G H0 (el i)) (hEa : ∀ i : Nat, (i : Int) < n → el i ≠ al) : zM l yX3_remove (ws_ yX3_remove cX3_remove 2 (some (.object "java/lang/Object"))) rm_X3_remove G (zAa al ar 0 cp H0) [.ref rw_, .int (iI i0)] H0 (fun r H1 => r = some (.ref (el i0.toNat)) ∧ zLst G H1 al ar (mc + 1) (n - 1) cp (fun j => if (j : Int) < i0 then el j else el (j + 1))) (fun _ => False) := by
  refine z_enter (by decide +kernel) (Nat.le_of_ble_eq_true rfl) ?_
  intro p e s m args below meth c ls hx hb hret hml hown hts hlocks htab hnm hK hH hl
  subst hH
  have hAn : ∀ q, s.heap.size ≤ q → (zAa al ar 0 cp s.heap) q := fun _ h => Or.inr (Or.inr h)
  have hS : va_S (zAa al ar 0 cp s.heap) s.heap s.heap [] := va_S.rf
  have hS0 := hS
  have hsz_0 : s.heap.size ≤ s.heap.size := Nat.le_refl _
  have hl : lv_has ls 2 [(0, .ref rw_), (1, .int (iI i0))] := hl
  have hbd := hL.2.2.1
  have hcp := hL.2.2.2.1
  have hne := hL.2.2.2.2
  have hA_al : zAa al ar 0 cp s.heap al := Or.inl rfl
  have hA_ar : (0 : Int) < cp → zAa al ar 0 cp s.heap ar := fun h => Or.inr (Or.inl ⟨h, rfl⟩)
  refine lv_aload_n hx hb dX3_remove_0 rfl (lv_at hl 0 rfl) ?_
  refine z_get (k := 0) hx hb hts in_X3 hown hK h1 rfl (by decide) q158 rfl (v := .ref al) rfl dX3_remove_1 ?_
  refine lv_iload_n hx hb dX3_remove_4 rfl (lv_at hl 1 rfl) ?_
  refine z_callR (vx_runV (As := [.int (iI i0)]) (rest := []) ⟨hx, hb, hml, hown, hts⟩ (cg_J2_remove l hL hi hE hEa) (cwV 1 hts (lw_V q1313 q1314 q1315 q46 q1316) rfl rfl rfl hd_J2_remove ⟨Nat.le_of_ble_eq_true rfl, Nat.le_of_ble_eq_true rfl⟩) (z_preV hK hS (zAa_le hA_al hA_ar hAn hS) hL.1 rfl rfl) rfl rfl hl.1 rfl (lv_room (Nat.le_of_ble_eq_true rfl)) dX3_remove_5 ⟨Nat.le_of_ble_eq_true rfl, Nat.le_of_ble_eq_true rfl⟩) hS (zAa_le hA_al hA_ar hAn hS) (fun H9 locs hp _ _ hS1 => ?_)
  have hS := hS1
  exact z_aret (r := some (el i0.toNat)) hx hb hret (Or.inl ⟨_, rfl⟩) hlocks hS ⟨rfl, hp⟩ (Nat.le_of_ble_eq_true rfl) (Nat.le_of_ble_eq_true rfl) dX3_remove_8

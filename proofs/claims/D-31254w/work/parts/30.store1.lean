set_option maxRecDepth 100000
theorem hn_X12_isReleased : yX12_isReleased.cls ≠ "java/lang/invoke/MethodHandle" ∧ yX12_isReleased.cls ≠ "java/lang/invoke/VarHandle" ∧ (parseMethodDescriptor yX12_isReleased.desc).map (fun d => d.parameters.length) = some 0 := by decide +kernel
theorem hd_X12_isReleased : yX12_isReleased.cls = "CheckoutDesk$Version" ∧ yX12_isReleased.cls ≠ "java/lang/invoke/MethodHandle" ∧ yX12_isReleased.cls ≠ "java/lang/invoke/VarHandle" ∧ (parseMethodDescriptor yX12_isReleased.desc).map (fun d => d.parameters.length) = some 0 := ⟨rfl, hn_X12_isReleased⟩
abbrev rm_X12_isReleased : Room := { frames := 1, cells := 0, slots := 0, locals := 16 }
set_option maxHeartbeats 1000000 in
theorem cg_X12_isReleased (l : Launch) {G : zG} {H0 : Heap} {v va : Nat} {nu dc bc mj mi : Int} {gn : Bool} (hv : zO G H0 v 11 [.ref va, .int (iI nu), .int (iI dc), .int (iI bc), .int (iI mj), .int (iI mi), .int (iI (bI gn))]) (hmi : inR mi) : zM l yX12_isReleased (ws_ yX12_isReleased cX12_isReleased 1 (some .boolean)) rm_X12_isReleased G (zN H0) [.ref v] H0 (fun r H1 => r = some (.int (iI (bI (decide (mi = 0))))) ∧ H1 = H0) (fun _ => False) := by
  refine z_enter (by decide +kernel) (Nat.le_of_ble_eq_true rfl) ?_
  intro p e s m args below meth c ls hx hb hret hml hown hts hlocks htab hnm hK hH hl
  subst hH
  have hAn : ∀ q, s.heap.size ≤ q → (zN s.heap) q := fun _ h => h
  have hS : va_S (zN s.heap) s.heap s.heap [] := va_S.rf
  have hS0 := hS
  have hsz_0 : s.heap.size ≤ s.heap.size := Nat.le_refl _
  have hl : lv_has ls 1 [(0, .ref v)] := hl
  refine lv_aload_n hx hb dX12_isReleased_0 rfl (lv_at hl 0 rfl) ?_
  refine z_get (k := 5) hx hb hts in_X12 hown hK hv rfl (by decide) q1190 rfl (v := .int (iI mi)) rfl dX12_isReleased_1 ?_
  refine z_join (pc2 := 12) (nL := 1) (lv := [(0, .ref v)]) (st2 := [.int (iI (bI (decide (mi = 0))))]) hS (fun J_1 => ?_) (fun locs ls hS hl => ?_)
  · refine z_if_ne (x := mi) (tgt := 11) hx hb (by first | with_reducible assumption | omega | exact ⟨by omega, by omega⟩) dX12_isReleased_4 (by decide) (fun c_2 => ?_) (fun c_2 => ?_)
    · refine lv_iconst (v := iI 0) hx hb dX12_isReleased_11 rfl ?_
      refine z_top (x := 0) (y := bI (decide (mi = 0))) (by simp [bI, c_2]) ?_
      exact J_1 _ ls hS (lv_sub hl [0] rfl)
    · refine lv_iconst (v := iI 1) hx hb dX12_isReleased_7 rfl ?_
      refine lv_goto (tgt := 12) hx hb dX12_isReleased_8 (by decide) ?_
      refine z_top (x := 1) (y := bI (decide (mi = 0))) (by simp [bI, c_2]) ?_
      exact J_1 _ ls hS (lv_sub hl [0] rfl)
  · exact z_iret hx hb hret (z_nar _) hlocks hS ⟨rfl, rfl⟩ (Nat.le_of_ble_eq_true rfl) (Nat.le_of_ble_eq_true rfl) dX12_isReleased_12
theorem hn_X12_isGone : yX12_isGone.cls ≠ "java/lang/invoke/MethodHandle" ∧ yX12_isGone.cls ≠ "java/lang/invoke/VarHandle" ∧ (parseMethodDescriptor yX12_isGone.desc).map (fun d => d.parameters.length) = some 0 := by decide +kernel
theorem hd_X12_isGone : yX12_isGone.cls = "CheckoutDesk$Version" ∧ yX12_isGone.cls ≠ "java/lang/invoke/MethodHandle" ∧ yX12_isGone.cls ≠ "java/lang/invoke/VarHandle" ∧ (parseMethodDescriptor yX12_isGone.desc).map (fun d => d.parameters.length) = some 0 := ⟨rfl, hn_X12_isGone⟩
abbrev rm_X12_isGone : Room := { frames := 1, cells := 0, slots := 0, locals := 16 }
set_option maxHeartbeats 1000000 in
theorem cg_X12_isGone (l : Launch) {G : zG} {H0 : Heap} {v va : Nat} {nu dc bc mj mi : Int} {gn : Bool} (hv : zO G H0 v 11 [.ref va, .int (iI nu), .int (iI dc), .int (iI bc), .int (iI mj), .int (iI mi), .int (iI (bI gn))]) : zM l yX12_isGone (ws_ yX12_isGone cX12_isGone 1 (some .boolean)) rm_X12_isGone G (zN H0) [.ref v] H0 (fun r H1 => r = some (.int (iI (bI gn))) ∧ H1 = H0) (fun _ => False) := by
  refine z_enter (by decide +kernel) (Nat.le_of_ble_eq_true rfl) ?_
  intro p e s m args below meth c ls hx hb hret hml hown hts hlocks htab hnm hK hH hl
  subst hH
  have hAn : ∀ q, s.heap.size ≤ q → (zN s.heap) q := fun _ h => h
  have hS : va_S (zN s.heap) s.heap s.heap [] := va_S.rf
  have hS0 := hS
  have hsz_0 : s.heap.size ≤ s.heap.size := Nat.le_refl _
  have hl : lv_has ls 1 [(0, .ref v)] := hl
  refine lv_aload_n hx hb dX12_isGone_0 rfl (lv_at hl 0 rfl) ?_
  refine z_get (k := 6) hx hb hts in_X12 hown hK hv rfl (by decide) q1197 rfl (v := .int (iI (bI gn))) rfl dX12_isGone_1 ?_
  exact z_iret hx hb hret (z_nar _) hlocks hS ⟨rfl, rfl⟩ (Nat.le_of_ble_eq_true rfl) (Nat.le_of_ble_eq_true rfl) dX12_isGone_4
theorem hn_X12_isOf : yX12_isOf.cls ≠ "java/lang/invoke/MethodHandle" ∧ yX12_isOf.cls ≠ "java/lang/invoke/VarHandle" ∧ (parseMethodDescriptor yX12_isOf.desc).map (fun d => d.parameters.length) = some 2 := by decide +kernel
theorem hd_X12_isOf : yX12_isOf.cls = "CheckoutDesk$Version" ∧ yX12_isOf.cls ≠ "java/lang/invoke/MethodHandle" ∧ yX12_isOf.cls ≠ "java/lang/invoke/VarHandle" ∧ (parseMethodDescriptor yX12_isOf.desc).map (fun d => d.parameters.length) = some 2 := ⟨rfl, hn_X12_isOf⟩
abbrev rm_X12_isOf : Room := { frames := 1, cells := 0, slots := 0, locals := 16 }
set_option maxHeartbeats 1000000 in
theorem cg_X12_isOf (l : Launch) {G : zG} {H0 : Heap} {v va : Nat} {nu dc bc mj mi : Int} {gn : Bool} (hv : zO G H0 v 11 [.ref va, .int (iI nu), .int (iI dc), .int (iI bc), .int (iI mj), .int (iI mi), .int (iI (bI gn))]) {x0 x1 : Int} (hdc : inR dc) (hbc : inR bc) (h0 : inR x0) (h1 : inR x1) : zM l yX12_isOf (ws_ yX12_isOf cX12_isOf 3 (some .boolean)) rm_X12_isOf G (zN H0) [.ref v, .int (iI x0), .int (iI x1)] H0 (fun r H1 => r = some (.int (iI (bI (!gn && ((decide (dc = x0)) && (decide (bc = x1))))))) ∧ H1 = H0) (fun _ => False) := by
  refine z_enter (by decide +kernel) (Nat.le_of_ble_eq_true rfl) ?_
  intro p e s m args below meth c ls hx hb hret hml hown hts hlocks htab hnm hK hH hl
  subst hH
  have hAn : ∀ q, s.heap.size ≤ q → (zN s.heap) q := fun _ h => h
  have hS : va_S (zN s.heap) s.heap s.heap [] := va_S.rf
  have hS0 := hS
  have hsz_0 : s.heap.size ≤ s.heap.size := Nat.le_refl _
  have hl : lv_has ls 3 [(0, .ref v), (1, .int (iI x0)), (2, .int (iI x1))] := hl
  refine lv_aload_n hx hb dX12_isOf_0 rfl (lv_at hl 0 rfl) ?_
  refine z_get (k := 6) hx hb hts in_X12 hown hK hv rfl (by decide) q1197 rfl (v := .int (iI (bI gn))) rfl dX12_isOf_1 ?_
  refine z_join (pc2 := 28) (nL := 3) (lv := [(0, .ref v), (1, .int (iI x0)), (2, .int (iI x1))]) (st2 := [.int (iI (bI (!gn && ((decide (dc = x0)) && (decide (bc = x1))))))]) hS (fun J_1 => ?_) (fun locs ls hS hl => ?_)
  · refine z_ifb_ne (b := gn) (tgt := 27) hx hb dX12_isOf_4 (by decide) (fun c_2 => ?_) (fun c_2 => ?_)
    · refine lv_iconst (v := iI 0) hx hb dX12_isOf_27 rfl ?_
      refine z_top (x := 0) (y := bI (!gn && ((decide (dc = x0)) && (decide (bc = x1))))) (by simp [bI, c_2]) ?_
      exact J_1 _ ls hS (lv_sub hl [0, 1, 2] rfl)
    · refine lv_aload_n hx hb dX12_isOf_7 rfl (lv_at hl 0 rfl) ?_
      refine z_get (k := 2) hx hb hts in_X12 hown hK hv rfl (by decide) q1177 rfl (v := .int (iI dc)) rfl dX12_isOf_8 ?_
      refine lv_iload_n hx hb dX12_isOf_11 rfl (lv_at hl 1 rfl) ?_
      refine z_icmp_ne (x := dc) (y := x0) (tgt := 27) hx hb (by first | with_reducible assumption | omega | exact ⟨by omega, by omega⟩) (by first | with_reducible assumption | omega | exact ⟨by omega, by omega⟩) dX12_isOf_12 (by decide) (fun c_3 => ?_) (fun c_3 => ?_)
      · refine lv_iconst (v := iI 0) hx hb dX12_isOf_27 rfl ?_
        refine z_top (x := 0) (y := bI (!gn && ((decide (dc = x0)) && (decide (bc = x1))))) (by simp [bI, c_2, c_3]) ?_
        exact J_1 _ ls hS (lv_sub hl [0, 1, 2] rfl)
      · refine lv_aload_n hx hb dX12_isOf_15 rfl (lv_at hl 0 rfl) ?_
        refine z_get (k := 3) hx hb hts in_X12 hown hK hv rfl (by decide) q1182 rfl (v := .int (iI bc)) rfl dX12_isOf_16 ?_
        refine lv_iload_n hx hb dX12_isOf_19 rfl (lv_at hl 2 rfl) ?_
        refine z_icmp_ne (x := bc) (y := x1) (tgt := 27) hx hb (by first | with_reducible assumption | omega | exact ⟨by omega, by omega⟩) (by first | with_reducible assumption | omega | exact ⟨by omega, by omega⟩) dX12_isOf_20 (by decide) (fun c_4 => ?_) (fun c_4 => ?_)
        · refine lv_iconst (v := iI 0) hx hb dX12_isOf_27 rfl ?_
          refine z_top (x := 0) (y := bI (!gn && ((decide (dc = x0)) && (decide (bc = x1))))) (by simp [bI, c_2, c_3, c_4]) ?_
          exact J_1 _ ls hS (lv_sub hl [0, 1, 2] rfl)
        · refine lv_iconst (v := iI 1) hx hb dX12_isOf_23 rfl ?_
          refine lv_goto (tgt := 28) hx hb dX12_isOf_24 (by decide) ?_
          refine z_top (x := 1) (y := bI (!gn && ((decide (dc = x0)) && (decide (bc = x1))))) (by simp [bI, c_2, c_3, c_4]) ?_
          exact J_1 _ ls hS (lv_sub hl [0, 1, 2] rfl)
  · exact z_iret hx hb hret (z_nar _) hlocks hS ⟨rfl, rfl⟩ (Nat.le_of_ble_eq_true rfl) (Nat.le_of_ble_eq_true rfl) dX12_isOf_28
theorem hn_X12_compareTo_2 : yX12_compareTo_2.cls ≠ "java/lang/invoke/MethodHandle" ∧ yX12_compareTo_2.cls ≠ "java/lang/invoke/VarHandle" ∧ (parseMethodDescriptor yX12_compareTo_2.desc).map (fun d => d.parameters.length) = some 1 := by decide +kernel
theorem hd_X12_compareTo_2 : yX12_compareTo_2.cls = "CheckoutDesk$Version" ∧ yX12_compareTo_2.cls ≠ "java/lang/invoke/MethodHandle" ∧ yX12_compareTo_2.cls ≠ "java/lang/invoke/VarHandle" ∧ (parseMethodDescriptor yX12_compareTo_2.desc).map (fun d => d.parameters.length) = some 1 := ⟨rfl, hn_X12_compareTo_2⟩
abbrev rm_X12_compareTo_2 : Room := { frames := 1, cells := 0, slots := 0, locals := 16 }
set_option maxHeartbeats 1000000 in
theorem cg_X12_compareTo_2 (l : Launch) {G : zG} {H0 : Heap} {v va : Nat} {nu dc bc mj mi : Int} {gn : Bool} (hv : zO G H0 v 11 [.ref va, .int (iI nu), .int (iI dc), .int (iI bc), .int (iI mj), .int (iI mi), .int (iI (bI gn))]) {v2 va2 : Nat} {nu2 dc2 bc2 mj2 mi2 : Int} {gn2 : Bool} (hv2 : zO G H0 v2 11 [.ref va2, .int (iI nu2), .int (iI dc2), .int (iI bc2), .int (iI mj2), .int (iI mi2), .int (iI (bI gn2))]) (hr1 : 0 ≤ mj ∧ mj ≤ 100000 ∧ 0 ≤ mi ∧ mi ≤ 100000 ∧ 0 ≤ mj2 ∧ mj2 ≤ 100000 ∧ 0 ≤ mi2 ∧ mi2 ≤ 100000) : zM l yX12_compareTo_2 (ws_ yX12_compareTo_2 cX12_compareTo_2 2 (some .int)) rm_X12_compareTo_2 G (zN H0) [.ref v, .ref v2] H0 (fun r H1 => r = some (.int (iI (if mj = mj2 then mi - mi2 else mj - mj2))) ∧ H1 = H0) (fun _ => False) := by
  refine z_enter (by decide +kernel) (Nat.le_of_ble_eq_true rfl) ?_
  intro p e s m args below meth c ls hx hb hret hml hown hts hlocks htab hnm hK hH hl
  subst hH
  have hAn : ∀ q, s.heap.size ≤ q → (zN s.heap) q := fun _ h => h
  have hS : va_S (zN s.heap) s.heap s.heap [] := va_S.rf
  have hS0 := hS
  have hsz_0 : s.heap.size ≤ s.heap.size := Nat.le_refl _
  have hl : lv_has ls 2 [(0, .ref v), (1, .ref v2)] := hl
  refine lv_aload_n hx hb dX12_compareTo_2_0 rfl (lv_at hl 0 rfl) ?_
  refine z_get (k := 4) hx hb hts in_X12 hown hK hv rfl (by decide) q1185 rfl (v := .int (iI mj)) rfl dX12_compareTo_2_1 ?_
  refine lv_aload_n hx hb dX12_compareTo_2_4 rfl (lv_at hl 1 rfl) ?_
  refine z_get (k := 4) hx hb hts in_X12 hown hK hv2 rfl (by decide) q1185 rfl (v := .int (iI mj2)) rfl dX12_compareTo_2_5 ?_
  refine z_join (pc2 := 32) (nL := 2) (lv := [(0, .ref v), (1, .ref v2)]) (st2 := [.int (iI (if mj = mj2 then mi - mi2 else mj - mj2))]) hS (fun J_1 => ?_) (fun locs ls hS hl => ?_)
  · refine z_icmp_eq (x := mj) (y := mj2) (tgt := 23) hx hb (by first | with_reducible assumption | omega | exact ⟨by omega, by omega⟩) (by first | with_reducible assumption | omega | exact ⟨by omega, by omega⟩) dX12_compareTo_2_8 (by decide) (fun c_2 => ?_) (fun c_2 => ?_)
    · refine lv_aload_n hx hb dX12_compareTo_2_23 rfl (lv_at hl 0 rfl) ?_
      refine z_get (k := 5) hx hb hts in_X12 hown hK hv rfl (by decide) q1190 rfl (v := .int (iI mi)) rfl dX12_compareTo_2_24 ?_
      refine lv_aload_n hx hb dX12_compareTo_2_27 rfl (lv_at hl 1 rfl) ?_
      refine z_get (k := 5) hx hb hts in_X12 hown hK hv2 rfl (by decide) q1190 rfl (v := .int (iI mi2)) rfl dX12_compareTo_2_28 ?_
      refine z_isub (x := mi) (y := mi2) hx hb dX12_compareTo_2_31 ?_
      refine z_top (x := mi - mi2) (y := if mj = mj2 then mi - mi2 else mj - mj2) (by simp [bI, c_2]) ?_
      exact J_1 _ ls hS (lv_sub hl [0, 1] rfl)
    · refine lv_aload_n hx hb dX12_compareTo_2_11 rfl (lv_at hl 0 rfl) ?_
      refine z_get (k := 4) hx hb hts in_X12 hown hK hv rfl (by decide) q1185 rfl (v := .int (iI mj)) rfl dX12_compareTo_2_12 ?_
      refine lv_aload_n hx hb dX12_compareTo_2_15 rfl (lv_at hl 1 rfl) ?_
      refine z_get (k := 4) hx hb hts in_X12 hown hK hv2 rfl (by decide) q1185 rfl (v := .int (iI mj2)) rfl dX12_compareTo_2_16 ?_
      refine z_isub (x := mj) (y := mj2) hx hb dX12_compareTo_2_19 ?_
      refine lv_goto (tgt := 32) hx hb dX12_compareTo_2_20 (by decide) ?_
      refine z_top (x := mj - mj2) (y := if mj = mj2 then mi - mi2 else mj - mj2) (by simp [bI, c_2]) ?_
      exact J_1 _ ls hS (lv_sub hl [0, 1] rfl)
  · exact z_iret hx hb hret rfl hlocks hS ⟨rfl, rfl⟩ (Nat.le_of_ble_eq_true rfl) (Nat.le_of_ble_eq_true rfl) dX12_compareTo_2_32
theorem hn_X12_compareTo : yX12_compareTo.cls ≠ "java/lang/invoke/MethodHandle" ∧ yX12_compareTo.cls ≠ "java/lang/invoke/VarHandle" ∧ (parseMethodDescriptor yX12_compareTo.desc).map (fun d => d.parameters.length) = some 1 := by decide +kernel
theorem hd_X12_compareTo : yX12_compareTo.cls = "CheckoutDesk$Version" ∧ yX12_compareTo.cls ≠ "java/lang/invoke/MethodHandle" ∧ yX12_compareTo.cls ≠ "java/lang/invoke/VarHandle" ∧ (parseMethodDescriptor yX12_compareTo.desc).map (fun d => d.parameters.length) = some 1 := ⟨rfl, hn_X12_compareTo⟩
abbrev rm_X12_compareTo : Room := { frames := 2, cells := 0, slots := 0, locals := 37 }
set_option maxHeartbeats 1000000 in
theorem cg_X12_compareTo (l : Launch) {G : zG} {H0 : Heap} {v va : Nat} {nu dc bc mj mi : Int} {gn : Bool} (hv : zO G H0 v 11 [.ref va, .int (iI nu), .int (iI dc), .int (iI bc), .int (iI mj), .int (iI mi), .int (iI (bI gn))]) {v2 va2 : Nat} {nu2 dc2 bc2 mj2 mi2 : Int} {gn2 : Bool} (hv2 : zO G H0 v2 11 [.ref va2, .int (iI nu2), .int (iI dc2), .int (iI bc2), .int (iI mj2), .int (iI mi2), .int (iI (bI gn2))]) (hr1 : 0 ≤ mj ∧ mj ≤ 100000 ∧ 0 ≤ mi ∧ mi ≤ 100000 ∧ 0 ≤ mj2 ∧ mj2 ≤ 100000 ∧ 0 ≤ mi2 ∧ mi2 ≤ 100000) : zM l yX12_compareTo (ws_ yX12_compareTo cX12_compareTo 2 (some .int)) rm_X12_compareTo G (zN H0) [.ref v, .ref v2] H0 (fun r H1 => r = some (.int (iI (if mj = mj2 then mi - mi2 else mj - mj2))) ∧ H1 = H0) (fun _ => False) := by
  refine z_enter (by decide +kernel) (Nat.le_of_ble_eq_true rfl) ?_
  intro p e s m args below meth c ls hx hb hret hml hown hts hlocks htab hnm hK hH hl
  subst hH
  have hAn : ∀ q, s.heap.size ≤ q → (zN s.heap) q := fun _ h => h
  have hS : va_S (zN s.heap) s.heap s.heap [] := va_S.rf
  have hS0 := hS
  have hsz_0 : s.heap.size ≤ s.heap.size := Nat.le_refl _
  have hl : lv_has ls 2 [(0, .ref v), (1, .ref v2)] := hl
  refine lv_aload_n hx hb dX12_compareTo_0 rfl (lv_at hl 0 rfl) ?_
  refine lv_aload_n hx hb dX12_compareTo_1 rfl (lv_at hl 1 rfl) ?_
  refine va_castE (nm := "CheckoutDesk$Version") hx hb hown (hts _ q521) (z_recv (q := (RX12, TX12, 7)) hK hv2 rfl) dX12_compareTo_2 ?_
  refine z_callp (vx_runV (As := [.ref v2]) (rest := []) ⟨hx, hb, hml, hown, hts⟩ (cg_X12_compareTo_2 l hv hv2 ⟨by omega, by omega, by omega, by omega, by omega, by omega, by omega, by omega⟩) (cwV 1 hts (lw_V q522 q523 q524 q77 q525) rfl rfl rfl hd_X12_compareTo_2 ⟨Nat.le_of_ble_eq_true rfl, Nat.le_of_ble_eq_true rfl⟩) (z_preV hK hS (zN_le hAn hS) hv rfl rfl) rfl rfl hl.1 rfl (lv_room (Nat.le_of_ble_eq_true rfl)) dX12_compareTo_5 ⟨Nat.le_of_ble_eq_true rfl, Nat.le_of_ble_eq_true rfl⟩) hS (zN_le hAn hS) rfl rfl (fun locs hS => ?_)
  exact z_iret hx hb hret rfl hlocks hS ⟨rfl, rfl⟩ (Nat.le_of_ble_eq_true rfl) (Nat.le_of_ble_eq_true rfl) dX12_compareTo_8

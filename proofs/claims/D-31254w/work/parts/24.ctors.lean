set_option maxRecDepth 100000
theorem hn_X5_init : yX5_init.cls ≠ "java/lang/invoke/MethodHandle" ∧ yX5_init.cls ≠ "java/lang/invoke/VarHandle" ∧ (parseMethodDescriptor yX5_init.desc).map (fun d => d.parameters.length) = some 2 := by decide +kernel
theorem hd_X5_init : yX5_init.cls = "CheckoutDesk$1" ∧ yX5_init.cls ≠ "java/lang/invoke/MethodHandle" ∧ yX5_init.cls ≠ "java/lang/invoke/VarHandle" ∧ (parseMethodDescriptor yX5_init.desc).map (fun d => d.parameters.length) = some 2 := ⟨rfl, hn_X5_init⟩
abbrev rm_X5_init : Room := { frames := 1, cells := 0, slots := 0, locals := 16 }
set_option maxHeartbeats 1000000 in
theorem cc_X5_init (l : Launch) {G : zG} {H0 : Heap} {h0 : Nat} {y1 : Int} {y0 : Nat} (ho : zO G H0 h0 4 [.int (iI 0), .null]) : zM l yX5_init (ws_ yX5_init cX5_init 3 none) rm_X5_init G (zO1 h0 H0) [.ref h0, .ref y0, .int (iI y1)] H0 (fun r H1 => r = none ∧ zO G H1 h0 4 [.int (iI y1), .ref y0] ∧ H1.size = H0.size ∧ ∀ q : Nat, q ≠ h0 → H1[q]? = H0[q]?) (fun _ => False) := by
  refine z_enter (by decide +kernel) (Nat.le_of_ble_eq_true rfl) ?_
  intro p e s m args below meth c ls hx hb hret hml hown hts hlocks htab hnm hK hH hl
  subst hH
  have hAn : ∀ q, s.heap.size ≤ q → (zO1 h0 s.heap) q := fun _ h => Or.inr h
  have hS : va_S (zO1 h0 s.heap) s.heap s.heap [] := va_S.rf
  have hS0 := hS
  have hsz_0 : s.heap.size ≤ s.heap.size := Nat.le_refl _
  have hl : lv_has ls 3 [(0, .ref h0), (1, .ref y0), (2, .int (iI y1))] := hl
  have hA0 : zO1 h0 s.heap h0 := Or.inl rfl
  refine lv_aload_n hx hb dX5_init_0 rfl (lv_at hl 0 rfl) ?_
  refine lv_aload_n hx hb dX5_init_1 rfl (lv_at hl 1 rfl) ?_
  refine z_putF (v := .ref y0) hx hb hts in_X5 tyX5 tyX5_ok nmX5 hown hK ho hA0 hS rfl 1 (by decide) q1758 rfl (hnm.trans rfl) rfl rfl rfl (Nat.le_of_ble_eq_true rfl) dX5_init_2 (fun H_1 locs ho_2 hz_3 hk_4 hS1 => ?_)
  have hS := hS1
  have hsz_5 : s.heap.size ≤ H_1.size := hS.1
  have hS0 := hS
  refine lv_aload_n hx hb dX5_init_5 rfl (lv_at hl 0 rfl) ?_
  refine lv_iload_n hx hb dX5_init_6 rfl (lv_at hl 2 rfl) ?_
  refine z_putF (v := .int (iI y1)) hx hb hts in_X5 tyX5 tyX5_ok nmX5 hown hK ho_2 hA0 hS rfl 0 (by decide) q1757 rfl (hnm.trans rfl) rfl rfl rfl (Nat.le_of_ble_eq_true rfl) dX5_init_7 (fun H_6 locs ho_7 hz_8 hk_9 hS1 => ?_)
  have hS := hS1
  have hsz_10 : s.heap.size ≤ H_6.size := hS.1
  have sz_11 := hz_8.trans hz_3
  have fr_12 := fun (q : Nat) (hq : q ≠ h0) => (hk_9 q hq).trans (hk_4 q hq)
  have hS0 := hS
  refine lv_aload_n hx hb dX5_init_10 rfl (lv_at hl 0 rfl) ?_
  refine W.objInit hx hb hown (hts _ q1756) (hts _ q116) (hts _ q117) rfl (by rw [hml]; exact hl.1) rfl dX5_init_11 (Nat.le_of_ble_eq_true rfl) (Nat.le_of_ble_eq_true rfl) ?_
  refine W.eq (g2 := F0 m 14 ls []) rfl ?_
  exact z_vret hx hb hret hlocks hS ⟨rfl, ho_7, sz_11, fr_12⟩ (Nat.le_of_ble_eq_true rfl) (Nat.le_of_ble_eq_true rfl) dX5_init_14
theorem hn_X6_init : yX6_init.cls ≠ "java/lang/invoke/MethodHandle" ∧ yX6_init.cls ≠ "java/lang/invoke/VarHandle" ∧ (parseMethodDescriptor yX6_init.desc).map (fun d => d.parameters.length) = some 3 := by decide +kernel
theorem hd_X6_init : yX6_init.cls = "CheckoutDesk$Store$1" ∧ yX6_init.cls ≠ "java/lang/invoke/MethodHandle" ∧ yX6_init.cls ≠ "java/lang/invoke/VarHandle" ∧ (parseMethodDescriptor yX6_init.desc).map (fun d => d.parameters.length) = some 3 := ⟨rfl, hn_X6_init⟩
abbrev rm_X6_init : Room := { frames := 1, cells := 0, slots := 0, locals := 16 }
set_option maxHeartbeats 1000000 in
theorem cc_X6_init (l : Launch) {G : zG} {H0 : Heap} {h0 : Nat} {y1 y2 : Int} {y0 : Nat} (ho : zO G H0 h0 5 [.int (iI 0), .int (iI 0), .null]) : zM l yX6_init (ws_ yX6_init cX6_init 4 none) rm_X6_init G (zO1 h0 H0) [.ref h0, .ref y0, .int (iI y1), .int (iI y2)] H0 (fun r H1 => r = none ∧ zO G H1 h0 5 [.int (iI y1), .int (iI y2), .ref y0] ∧ H1.size = H0.size ∧ ∀ q : Nat, q ≠ h0 → H1[q]? = H0[q]?) (fun _ => False) := by
  refine z_enter (by decide +kernel) (Nat.le_of_ble_eq_true rfl) ?_
  intro p e s m args below meth c ls hx hb hret hml hown hts hlocks htab hnm hK hH hl
  subst hH
  have hAn : ∀ q, s.heap.size ≤ q → (zO1 h0 s.heap) q := fun _ h => Or.inr h
  have hS : va_S (zO1 h0 s.heap) s.heap s.heap [] := va_S.rf
  have hS0 := hS
  have hsz_0 : s.heap.size ≤ s.heap.size := Nat.le_refl _
  have hl : lv_has ls 4 [(0, .ref h0), (1, .ref y0), (2, .int (iI y1)), (3, .int (iI y2))] := hl
  have hA0 : zO1 h0 s.heap h0 := Or.inl rfl
  refine lv_aload_n hx hb dX6_init_0 rfl (lv_at hl 0 rfl) ?_
  refine lv_aload_n hx hb dX6_init_1 rfl (lv_at hl 1 rfl) ?_
  refine z_putF (v := .ref y0) hx hb hts in_X6 tyX6 tyX6_ok nmX6 hown hK ho hA0 hS rfl 2 (by decide) q964 rfl (hnm.trans rfl) rfl rfl rfl (Nat.le_of_ble_eq_true rfl) dX6_init_2 (fun H_1 locs ho_2 hz_3 hk_4 hS1 => ?_)
  have hS := hS1
  have hsz_5 : s.heap.size ≤ H_1.size := hS.1
  have hS0 := hS
  refine lv_aload_n hx hb dX6_init_5 rfl (lv_at hl 0 rfl) ?_
  refine lv_iload_n hx hb dX6_init_6 rfl (lv_at hl 2 rfl) ?_
  refine z_putF (v := .int (iI y1)) hx hb hts in_X6 tyX6 tyX6_ok nmX6 hown hK ho_2 hA0 hS rfl 0 (by decide) q962 rfl (hnm.trans rfl) rfl rfl rfl (Nat.le_of_ble_eq_true rfl) dX6_init_7 (fun H_6 locs ho_7 hz_8 hk_9 hS1 => ?_)
  have hS := hS1
  have hsz_10 : s.heap.size ≤ H_6.size := hS.1
  have sz_11 := hz_8.trans hz_3
  have fr_12 := fun (q : Nat) (hq : q ≠ h0) => (hk_9 q hq).trans (hk_4 q hq)
  have hS0 := hS
  refine lv_aload_n hx hb dX6_init_10 rfl (lv_at hl 0 rfl) ?_
  refine lv_iload_n hx hb dX6_init_11 rfl (lv_at hl 3 rfl) ?_
  refine z_putF (v := .int (iI y2)) hx hb hts in_X6 tyX6 tyX6_ok nmX6 hown hK ho_7 hA0 hS rfl 1 (by decide) q963 rfl (hnm.trans rfl) rfl rfl rfl (Nat.le_of_ble_eq_true rfl) dX6_init_12 (fun H_13 locs ho_14 hz_15 hk_16 hS1 => ?_)
  have hS := hS1
  have hsz_17 : s.heap.size ≤ H_13.size := hS.1
  have sz_18 := hz_15.trans sz_11
  have fr_19 := fun (q : Nat) (hq : q ≠ h0) => (hk_16 q hq).trans (fr_12 q hq)
  have hS0 := hS
  refine lv_aload_n hx hb dX6_init_15 rfl (lv_at hl 0 rfl) ?_
  refine W.objInit hx hb hown (hts _ q961) (hts _ q116) (hts _ q117) rfl (by rw [hml]; exact hl.1) rfl dX6_init_16 (Nat.le_of_ble_eq_true rfl) (Nat.le_of_ble_eq_true rfl) ?_
  refine W.eq (g2 := F0 m 19 ls []) rfl ?_
  exact z_vret hx hb hret hlocks hS ⟨rfl, ho_14, sz_18, fr_19⟩ (Nat.le_of_ble_eq_true rfl) (Nat.le_of_ble_eq_true rfl) dX6_init_19
theorem hn_X7_init : yX7_init.cls ≠ "java/lang/invoke/MethodHandle" ∧ yX7_init.cls ≠ "java/lang/invoke/VarHandle" ∧ (parseMethodDescriptor yX7_init.desc).map (fun d => d.parameters.length) = some 3 := by decide +kernel
theorem hd_X7_init : yX7_init.cls = "CheckoutDesk$Store$2" ∧ yX7_init.cls ≠ "java/lang/invoke/MethodHandle" ∧ yX7_init.cls ≠ "java/lang/invoke/VarHandle" ∧ (parseMethodDescriptor yX7_init.desc).map (fun d => d.parameters.length) = some 3 := ⟨rfl, hn_X7_init⟩
abbrev rm_X7_init : Room := { frames := 1, cells := 0, slots := 0, locals := 16 }
set_option maxHeartbeats 1000000 in
theorem cc_X7_init (l : Launch) {G : zG} {H0 : Heap} {h0 : Nat} {y2 : Int} {y0 y1 : Nat} (ho : zO G H0 h0 6 [.null, .int (iI 0), .null]) : zM l yX7_init (ws_ yX7_init cX7_init 4 none) rm_X7_init G (zO1 h0 H0) [.ref h0, .ref y0, .ref y1, .int (iI y2)] H0 (fun r H1 => r = none ∧ zO G H1 h0 6 [.ref y1, .int (iI y2), .ref y0] ∧ H1.size = H0.size ∧ ∀ q : Nat, q ≠ h0 → H1[q]? = H0[q]?) (fun _ => False) := by
  refine z_enter (by decide +kernel) (Nat.le_of_ble_eq_true rfl) ?_
  intro p e s m args below meth c ls hx hb hret hml hown hts hlocks htab hnm hK hH hl
  subst hH
  have hAn : ∀ q, s.heap.size ≤ q → (zO1 h0 s.heap) q := fun _ h => Or.inr h
  have hS : va_S (zO1 h0 s.heap) s.heap s.heap [] := va_S.rf
  have hS0 := hS
  have hsz_0 : s.heap.size ≤ s.heap.size := Nat.le_refl _
  have hl : lv_has ls 4 [(0, .ref h0), (1, .ref y0), (2, .ref y1), (3, .int (iI y2))] := hl
  have hA0 : zO1 h0 s.heap h0 := Or.inl rfl
  refine lv_aload_n hx hb dX7_init_0 rfl (lv_at hl 0 rfl) ?_
  refine lv_aload_n hx hb dX7_init_1 rfl (lv_at hl 1 rfl) ?_
  refine z_putF (v := .ref y0) hx hb hts in_X7 tyX7 tyX7_ok nmX7 hown hK ho hA0 hS rfl 2 (by decide) q398 rfl (hnm.trans rfl) rfl rfl rfl (Nat.le_of_ble_eq_true rfl) dX7_init_2 (fun H_1 locs ho_2 hz_3 hk_4 hS1 => ?_)
  have hS := hS1
  have hsz_5 : s.heap.size ≤ H_1.size := hS.1
  have hS0 := hS
  refine lv_aload_n hx hb dX7_init_5 rfl (lv_at hl 0 rfl) ?_
  refine lv_aload_n hx hb dX7_init_6 rfl (lv_at hl 2 rfl) ?_
  refine z_putF (v := .ref y1) hx hb hts in_X7 tyX7 tyX7_ok nmX7 hown hK ho_2 hA0 hS rfl 0 (by decide) q396 rfl (hnm.trans rfl) rfl rfl rfl (Nat.le_of_ble_eq_true rfl) dX7_init_7 (fun H_6 locs ho_7 hz_8 hk_9 hS1 => ?_)
  have hS := hS1
  have hsz_10 : s.heap.size ≤ H_6.size := hS.1
  have sz_11 := hz_8.trans hz_3
  have fr_12 := fun (q : Nat) (hq : q ≠ h0) => (hk_9 q hq).trans (hk_4 q hq)
  have hS0 := hS
  refine lv_aload_n hx hb dX7_init_10 rfl (lv_at hl 0 rfl) ?_
  refine lv_iload_n hx hb dX7_init_11 rfl (lv_at hl 3 rfl) ?_
  refine z_putF (v := .int (iI y2)) hx hb hts in_X7 tyX7 tyX7_ok nmX7 hown hK ho_7 hA0 hS rfl 1 (by decide) q397 rfl (hnm.trans rfl) rfl rfl rfl (Nat.le_of_ble_eq_true rfl) dX7_init_12 (fun H_13 locs ho_14 hz_15 hk_16 hS1 => ?_)
  have hS := hS1
  have hsz_17 : s.heap.size ≤ H_13.size := hS.1
  have sz_18 := hz_15.trans sz_11
  have fr_19 := fun (q : Nat) (hq : q ≠ h0) => (hk_16 q hq).trans (fr_12 q hq)
  have hS0 := hS
  refine lv_aload_n hx hb dX7_init_15 rfl (lv_at hl 0 rfl) ?_
  refine W.objInit hx hb hown (hts _ q395) (hts _ q116) (hts _ q117) rfl (by rw [hml]; exact hl.1) rfl dX7_init_16 (Nat.le_of_ble_eq_true rfl) (Nat.le_of_ble_eq_true rfl) ?_
  refine W.eq (g2 := F0 m 19 ls []) rfl ?_
  exact z_vret hx hb hret hlocks hS ⟨rfl, ho_14, sz_18, fr_19⟩ (Nat.le_of_ble_eq_true rfl) (Nat.le_of_ble_eq_true rfl) dX7_init_19
theorem hn_X8_init : yX8_init.cls ≠ "java/lang/invoke/MethodHandle" ∧ yX8_init.cls ≠ "java/lang/invoke/VarHandle" ∧ (parseMethodDescriptor yX8_init.desc).map (fun d => d.parameters.length) = some 2 := by decide +kernel
theorem hd_X8_init : yX8_init.cls = "CheckoutDesk$Store$3" ∧ yX8_init.cls ≠ "java/lang/invoke/MethodHandle" ∧ yX8_init.cls ≠ "java/lang/invoke/VarHandle" ∧ (parseMethodDescriptor yX8_init.desc).map (fun d => d.parameters.length) = some 2 := ⟨rfl, hn_X8_init⟩
abbrev rm_X8_init : Room := { frames := 1, cells := 0, slots := 0, locals := 16 }
set_option maxHeartbeats 1000000 in
theorem cc_X8_init (l : Launch) {G : zG} {H0 : Heap} {h0 : Nat} {y0 y1 : Nat} (ho : zO G H0 h0 7 [.null, .null]) : zM l yX8_init (ws_ yX8_init cX8_init 3 none) rm_X8_init G (zO1 h0 H0) [.ref h0, .ref y0, .ref y1] H0 (fun r H1 => r = none ∧ zO G H1 h0 7 [.ref y1, .ref y0] ∧ H1.size = H0.size ∧ ∀ q : Nat, q ≠ h0 → H1[q]? = H0[q]?) (fun _ => False) := by
  refine z_enter (by decide +kernel) (Nat.le_of_ble_eq_true rfl) ?_
  intro p e s m args below meth c ls hx hb hret hml hown hts hlocks htab hnm hK hH hl
  subst hH
  have hAn : ∀ q, s.heap.size ≤ q → (zO1 h0 s.heap) q := fun _ h => Or.inr h
  have hS : va_S (zO1 h0 s.heap) s.heap s.heap [] := va_S.rf
  have hS0 := hS
  have hsz_0 : s.heap.size ≤ s.heap.size := Nat.le_refl _
  have hl : lv_has ls 3 [(0, .ref h0), (1, .ref y0), (2, .ref y1)] := hl
  have hA0 : zO1 h0 s.heap h0 := Or.inl rfl
  refine lv_aload_n hx hb dX8_init_0 rfl (lv_at hl 0 rfl) ?_
  refine lv_aload_n hx hb dX8_init_1 rfl (lv_at hl 1 rfl) ?_
  refine z_putF (v := .ref y0) hx hb hts in_X8 tyX8 tyX8_ok nmX8 hown hK ho hA0 hS rfl 1 (by decide) q999 rfl (hnm.trans rfl) rfl rfl rfl (Nat.le_of_ble_eq_true rfl) dX8_init_2 (fun H_1 locs ho_2 hz_3 hk_4 hS1 => ?_)
  have hS := hS1
  have hsz_5 : s.heap.size ≤ H_1.size := hS.1
  have hS0 := hS
  refine lv_aload_n hx hb dX8_init_5 rfl (lv_at hl 0 rfl) ?_
  refine lv_aload_n hx hb dX8_init_6 rfl (lv_at hl 2 rfl) ?_
  refine z_putF (v := .ref y1) hx hb hts in_X8 tyX8 tyX8_ok nmX8 hown hK ho_2 hA0 hS rfl 0 (by decide) q998 rfl (hnm.trans rfl) rfl rfl rfl (Nat.le_of_ble_eq_true rfl) dX8_init_7 (fun H_6 locs ho_7 hz_8 hk_9 hS1 => ?_)
  have hS := hS1
  have hsz_10 : s.heap.size ≤ H_6.size := hS.1
  have sz_11 := hz_8.trans hz_3
  have fr_12 := fun (q : Nat) (hq : q ≠ h0) => (hk_9 q hq).trans (hk_4 q hq)
  have hS0 := hS
  refine lv_aload_n hx hb dX8_init_10 rfl (lv_at hl 0 rfl) ?_
  refine W.objInit hx hb hown (hts _ q997) (hts _ q116) (hts _ q117) rfl (by rw [hml]; exact hl.1) rfl dX8_init_11 (Nat.le_of_ble_eq_true rfl) (Nat.le_of_ble_eq_true rfl) ?_
  refine W.eq (g2 := F0 m 14 ls []) rfl ?_
  exact z_vret hx hb hret hlocks hS ⟨rfl, ho_7, sz_11, fr_12⟩ (Nat.le_of_ble_eq_true rfl) (Nat.le_of_ble_eq_true rfl) dX8_init_14
theorem hn_X9_init : yX9_init.cls ≠ "java/lang/invoke/MethodHandle" ∧ yX9_init.cls ≠ "java/lang/invoke/VarHandle" ∧ (parseMethodDescriptor yX9_init.desc).map (fun d => d.parameters.length) = some 2 := by decide +kernel
theorem hd_X9_init : yX9_init.cls = "CheckoutDesk$Store$4" ∧ yX9_init.cls ≠ "java/lang/invoke/MethodHandle" ∧ yX9_init.cls ≠ "java/lang/invoke/VarHandle" ∧ (parseMethodDescriptor yX9_init.desc).map (fun d => d.parameters.length) = some 2 := ⟨rfl, hn_X9_init⟩
abbrev rm_X9_init : Room := { frames := 1, cells := 0, slots := 0, locals := 16 }
set_option maxHeartbeats 1000000 in
theorem cc_X9_init (l : Launch) {G : zG} {H0 : Heap} {h0 : Nat} {y0 y1 : Nat} (ho : zO G H0 h0 8 [.null, .null]) : zM l yX9_init (ws_ yX9_init cX9_init 3 none) rm_X9_init G (zO1 h0 H0) [.ref h0, .ref y0, .ref y1] H0 (fun r H1 => r = none ∧ zO G H1 h0 8 [.ref y1, .ref y0] ∧ H1.size = H0.size ∧ ∀ q : Nat, q ≠ h0 → H1[q]? = H0[q]?) (fun _ => False) := by
  refine z_enter (by decide +kernel) (Nat.le_of_ble_eq_true rfl) ?_
  intro p e s m args below meth c ls hx hb hret hml hown hts hlocks htab hnm hK hH hl
  subst hH
  have hAn : ∀ q, s.heap.size ≤ q → (zO1 h0 s.heap) q := fun _ h => Or.inr h
  have hS : va_S (zO1 h0 s.heap) s.heap s.heap [] := va_S.rf
  have hS0 := hS
  have hsz_0 : s.heap.size ≤ s.heap.size := Nat.le_refl _
  have hl : lv_has ls 3 [(0, .ref h0), (1, .ref y0), (2, .ref y1)] := hl
  have hA0 : zO1 h0 s.heap h0 := Or.inl rfl
  refine lv_aload_n hx hb dX9_init_0 rfl (lv_at hl 0 rfl) ?_
  refine lv_aload_n hx hb dX9_init_1 rfl (lv_at hl 1 rfl) ?_
  refine z_putF (v := .ref y0) hx hb hts in_X9 tyX9 tyX9_ok nmX9 hown hK ho hA0 hS rfl 1 (by decide) q1013 rfl (hnm.trans rfl) rfl rfl rfl (Nat.le_of_ble_eq_true rfl) dX9_init_2 (fun H_1 locs ho_2 hz_3 hk_4 hS1 => ?_)
  have hS := hS1
  have hsz_5 : s.heap.size ≤ H_1.size := hS.1
  have hS0 := hS
  refine lv_aload_n hx hb dX9_init_5 rfl (lv_at hl 0 rfl) ?_
  refine lv_aload_n hx hb dX9_init_6 rfl (lv_at hl 2 rfl) ?_
  refine z_putF (v := .ref y1) hx hb hts in_X9 tyX9 tyX9_ok nmX9 hown hK ho_2 hA0 hS rfl 0 (by decide) q1012 rfl (hnm.trans rfl) rfl rfl rfl (Nat.le_of_ble_eq_true rfl) dX9_init_7 (fun H_6 locs ho_7 hz_8 hk_9 hS1 => ?_)
  have hS := hS1
  have hsz_10 : s.heap.size ≤ H_6.size := hS.1
  have sz_11 := hz_8.trans hz_3
  have fr_12 := fun (q : Nat) (hq : q ≠ h0) => (hk_9 q hq).trans (hk_4 q hq)
  have hS0 := hS
  refine lv_aload_n hx hb dX9_init_10 rfl (lv_at hl 0 rfl) ?_
  refine W.objInit hx hb hown (hts _ q1011) (hts _ q116) (hts _ q117) rfl (by rw [hml]; exact hl.1) rfl dX9_init_11 (Nat.le_of_ble_eq_true rfl) (Nat.le_of_ble_eq_true rfl) ?_
  refine W.eq (g2 := F0 m 14 ls []) rfl ?_
  exact z_vret hx hb hret hlocks hS ⟨rfl, ho_7, sz_11, fr_12⟩ (Nat.le_of_ble_eq_true rfl) (Nat.le_of_ble_eq_true rfl) dX9_init_14
theorem hn_X17_init : yX17_init.cls ≠ "java/lang/invoke/MethodHandle" ∧ yX17_init.cls ≠ "java/lang/invoke/VarHandle" ∧ (parseMethodDescriptor yX17_init.desc).map (fun d => d.parameters.length) = some 2 := by decide +kernel
theorem hd_X17_init : yX17_init.cls = "CheckoutDesk$2" ∧ yX17_init.cls ≠ "java/lang/invoke/MethodHandle" ∧ yX17_init.cls ≠ "java/lang/invoke/VarHandle" ∧ (parseMethodDescriptor yX17_init.desc).map (fun d => d.parameters.length) = some 2 := ⟨rfl, hn_X17_init⟩
abbrev rm_X17_init : Room := { frames := 1, cells := 0, slots := 0, locals := 16 }
set_option maxHeartbeats 1000000 in
theorem cc_X17_init (l : Launch) {G : zG} {H0 : Heap} {h0 : Nat} {y1 : Int} {y0 : Nat} (ho : zO G H0 h0 16 [.int (iI 0), .null]) : zM l yX17_init (ws_ yX17_init cX17_init 3 none) rm_X17_init G (zO1 h0 H0) [.ref h0, .ref y0, .int (iI y1)] H0 (fun r H1 => r = none ∧ zO G H1 h0 16 [.int (iI y1), .ref y0] ∧ H1.size = H0.size ∧ ∀ q : Nat, q ≠ h0 → H1[q]? = H0[q]?) (fun _ => False) := by
  refine z_enter (by decide +kernel) (Nat.le_of_ble_eq_true rfl) ?_
  intro p e s m args below meth c ls hx hb hret hml hown hts hlocks htab hnm hK hH hl
  subst hH
  have hAn : ∀ q, s.heap.size ≤ q → (zO1 h0 s.heap) q := fun _ h => Or.inr h
  have hS : va_S (zO1 h0 s.heap) s.heap s.heap [] := va_S.rf
  have hS0 := hS
  have hsz_0 : s.heap.size ≤ s.heap.size := Nat.le_refl _
  have hl : lv_has ls 3 [(0, .ref h0), (1, .ref y0), (2, .int (iI y1))] := hl
  have hA0 : zO1 h0 s.heap h0 := Or.inl rfl
  refine lv_aload_n hx hb dX17_init_0 rfl (lv_at hl 0 rfl) ?_
  refine lv_aload_n hx hb dX17_init_1 rfl (lv_at hl 1 rfl) ?_
  refine z_putF (v := .ref y0) hx hb hts in_X17 tyX17 tyX17_ok nmX17 hown hK ho hA0 hS rfl 1 (by decide) q1797 rfl (hnm.trans rfl) rfl rfl rfl (Nat.le_of_ble_eq_true rfl) dX17_init_2 (fun H_1 locs ho_2 hz_3 hk_4 hS1 => ?_)
  have hS := hS1
  have hsz_5 : s.heap.size ≤ H_1.size := hS.1
  have hS0 := hS
  refine lv_aload_n hx hb dX17_init_5 rfl (lv_at hl 0 rfl) ?_
  refine lv_iload_n hx hb dX17_init_6 rfl (lv_at hl 2 rfl) ?_
  refine z_putF (v := .int (iI y1)) hx hb hts in_X17 tyX17 tyX17_ok nmX17 hown hK ho_2 hA0 hS rfl 0 (by decide) q1796 rfl (hnm.trans rfl) rfl rfl rfl (Nat.le_of_ble_eq_true rfl) dX17_init_7 (fun H_6 locs ho_7 hz_8 hk_9 hS1 => ?_)
  have hS := hS1
  have hsz_10 : s.heap.size ≤ H_6.size := hS.1
  have sz_11 := hz_8.trans hz_3
  have fr_12 := fun (q : Nat) (hq : q ≠ h0) => (hk_9 q hq).trans (hk_4 q hq)
  have hS0 := hS
  refine lv_aload_n hx hb dX17_init_10 rfl (lv_at hl 0 rfl) ?_
  refine W.objInit hx hb hown (hts _ q1795) (hts _ q116) (hts _ q117) rfl (by rw [hml]; exact hl.1) rfl dX17_init_11 (Nat.le_of_ble_eq_true rfl) (Nat.le_of_ble_eq_true rfl) ?_
  refine W.eq (g2 := F0 m 14 ls []) rfl ?_
  exact z_vret hx hb hret hlocks hS ⟨rfl, ho_7, sz_11, fr_12⟩ (Nat.le_of_ble_eq_true rfl) (Nat.le_of_ble_eq_true rfl) dX17_init_14
theorem hn_X18_init : yX18_init.cls ≠ "java/lang/invoke/MethodHandle" ∧ yX18_init.cls ≠ "java/lang/invoke/VarHandle" ∧ (parseMethodDescriptor yX18_init.desc).map (fun d => d.parameters.length) = some 3 := by decide +kernel
theorem hd_X18_init : yX18_init.cls = "CheckoutDesk$3" ∧ yX18_init.cls ≠ "java/lang/invoke/MethodHandle" ∧ yX18_init.cls ≠ "java/lang/invoke/VarHandle" ∧ (parseMethodDescriptor yX18_init.desc).map (fun d => d.parameters.length) = some 3 := ⟨rfl, hn_X18_init⟩
abbrev rm_X18_init : Room := { frames := 1, cells := 0, slots := 0, locals := 16 }
set_option maxHeartbeats 1000000 in
theorem cc_X18_init (l : Launch) {G : zG} {H0 : Heap} {h0 : Nat} {y1 y2 : Int} {y0 : Nat} (ho : zO G H0 h0 17 [.int (iI 0), .int (iI 0), .null]) : zM l yX18_init (ws_ yX18_init cX18_init 4 none) rm_X18_init G (zO1 h0 H0) [.ref h0, .ref y0, .int (iI y1), .int (iI y2)] H0 (fun r H1 => r = none ∧ zO G H1 h0 17 [.int (iI y1), .int (iI y2), .ref y0] ∧ H1.size = H0.size ∧ ∀ q : Nat, q ≠ h0 → H1[q]? = H0[q]?) (fun _ => False) := by
  refine z_enter (by decide +kernel) (Nat.le_of_ble_eq_true rfl) ?_
  intro p e s m args below meth c ls hx hb hret hml hown hts hlocks htab hnm hK hH hl
  subst hH
  have hAn : ∀ q, s.heap.size ≤ q → (zO1 h0 s.heap) q := fun _ h => Or.inr h
  have hS : va_S (zO1 h0 s.heap) s.heap s.heap [] := va_S.rf
  have hS0 := hS
  have hsz_0 : s.heap.size ≤ s.heap.size := Nat.le_refl _
  have hl : lv_has ls 4 [(0, .ref h0), (1, .ref y0), (2, .int (iI y1)), (3, .int (iI y2))] := hl
  have hA0 : zO1 h0 s.heap h0 := Or.inl rfl
  refine lv_aload_n hx hb dX18_init_0 rfl (lv_at hl 0 rfl) ?_
  refine lv_aload_n hx hb dX18_init_1 rfl (lv_at hl 1 rfl) ?_
  refine z_putF (v := .ref y0) hx hb hts in_X18 tyX18 tyX18_ok nmX18 hown hK ho hA0 hS rfl 2 (by decide) q1819 rfl (hnm.trans rfl) rfl rfl rfl (Nat.le_of_ble_eq_true rfl) dX18_init_2 (fun H_1 locs ho_2 hz_3 hk_4 hS1 => ?_)
  have hS := hS1
  have hsz_5 : s.heap.size ≤ H_1.size := hS.1
  have hS0 := hS
  refine lv_aload_n hx hb dX18_init_5 rfl (lv_at hl 0 rfl) ?_
  refine lv_iload_n hx hb dX18_init_6 rfl (lv_at hl 2 rfl) ?_
  refine z_putF (v := .int (iI y1)) hx hb hts in_X18 tyX18 tyX18_ok nmX18 hown hK ho_2 hA0 hS rfl 0 (by decide) q1817 rfl (hnm.trans rfl) rfl rfl rfl (Nat.le_of_ble_eq_true rfl) dX18_init_7 (fun H_6 locs ho_7 hz_8 hk_9 hS1 => ?_)
  have hS := hS1
  have hsz_10 : s.heap.size ≤ H_6.size := hS.1
  have sz_11 := hz_8.trans hz_3
  have fr_12 := fun (q : Nat) (hq : q ≠ h0) => (hk_9 q hq).trans (hk_4 q hq)
  have hS0 := hS
  refine lv_aload_n hx hb dX18_init_10 rfl (lv_at hl 0 rfl) ?_
  refine lv_iload_n hx hb dX18_init_11 rfl (lv_at hl 3 rfl) ?_
  refine z_putF (v := .int (iI y2)) hx hb hts in_X18 tyX18 tyX18_ok nmX18 hown hK ho_7 hA0 hS rfl 1 (by decide) q1818 rfl (hnm.trans rfl) rfl rfl rfl (Nat.le_of_ble_eq_true rfl) dX18_init_12 (fun H_13 locs ho_14 hz_15 hk_16 hS1 => ?_)
  have hS := hS1
  have hsz_17 : s.heap.size ≤ H_13.size := hS.1
  have sz_18 := hz_15.trans sz_11
  have fr_19 := fun (q : Nat) (hq : q ≠ h0) => (hk_16 q hq).trans (fr_12 q hq)
  have hS0 := hS
  refine lv_aload_n hx hb dX18_init_15 rfl (lv_at hl 0 rfl) ?_
  refine W.objInit hx hb hown (hts _ q1816) (hts _ q116) (hts _ q117) rfl (by rw [hml]; exact hl.1) rfl dX18_init_16 (Nat.le_of_ble_eq_true rfl) (Nat.le_of_ble_eq_true rfl) ?_
  refine W.eq (g2 := F0 m 19 ls []) rfl ?_
  exact z_vret hx hb hret hlocks hS ⟨rfl, ho_14, sz_18, fr_19⟩ (Nat.le_of_ble_eq_true rfl) (Nat.le_of_ble_eq_true rfl) dX18_init_19
theorem hn_X19_init : yX19_init.cls ≠ "java/lang/invoke/MethodHandle" ∧ yX19_init.cls ≠ "java/lang/invoke/VarHandle" ∧ (parseMethodDescriptor yX19_init.desc).map (fun d => d.parameters.length) = some 5 := by decide +kernel
theorem hd_X19_init : yX19_init.cls = "CheckoutDesk$4" ∧ yX19_init.cls ≠ "java/lang/invoke/MethodHandle" ∧ yX19_init.cls ≠ "java/lang/invoke/VarHandle" ∧ (parseMethodDescriptor yX19_init.desc).map (fun d => d.parameters.length) = some 5 := ⟨rfl, hn_X19_init⟩
abbrev rm_X19_init : Room := { frames := 1, cells := 0, slots := 0, locals := 16 }
set_option maxHeartbeats 1000000 in
theorem cc_X19_init (l : Launch) {G : zG} {H0 : Heap} {h0 : Nat} {y1 y2 y3 y4 : Int} {y0 : Nat} (ho : zO G H0 h0 18 [.int (iI 0), .int (iI 0), .int (iI 0), .int (iI 0), .null]) : zM l yX19_init (ws_ yX19_init cX19_init 6 none) rm_X19_init G (zO1 h0 H0) [.ref h0, .ref y0, .int (iI y1), .int (iI y2), .int (iI y3), .int (iI y4)] H0 (fun r H1 => r = none ∧ zO G H1 h0 18 [.int (iI y1), .int (iI y2), .int (iI y3), .int (iI y4), .ref y0] ∧ H1.size = H0.size ∧ ∀ q : Nat, q ≠ h0 → H1[q]? = H0[q]?) (fun _ => False) := by
  refine z_enter (by decide +kernel) (Nat.le_of_ble_eq_true rfl) ?_
  intro p e s m args below meth c ls hx hb hret hml hown hts hlocks htab hnm hK hH hl
  subst hH
  have hAn : ∀ q, s.heap.size ≤ q → (zO1 h0 s.heap) q := fun _ h => Or.inr h
  have hS : va_S (zO1 h0 s.heap) s.heap s.heap [] := va_S.rf
  have hS0 := hS
  have hsz_0 : s.heap.size ≤ s.heap.size := Nat.le_refl _
  have hl : lv_has ls 6 [(0, .ref h0), (1, .ref y0), (2, .int (iI y1)), (3, .int (iI y2)), (4, .int (iI y3)), (5, .int (iI y4))] := hl
  have hA0 : zO1 h0 s.heap h0 := Or.inl rfl
  refine lv_aload_n hx hb dX19_init_0 rfl (lv_at hl 0 rfl) ?_
  refine lv_aload_n hx hb dX19_init_1 rfl (lv_at hl 1 rfl) ?_
  refine z_putF (v := .ref y0) hx hb hts in_X19 tyX19 tyX19_ok nmX19 hown hK ho hA0 hS rfl 4 (by decide) q1844 rfl (hnm.trans rfl) rfl rfl rfl (Nat.le_of_ble_eq_true rfl) dX19_init_2 (fun H_1 locs ho_2 hz_3 hk_4 hS1 => ?_)
  have hS := hS1
  have hsz_5 : s.heap.size ≤ H_1.size := hS.1
  have hS0 := hS
  refine lv_aload_n hx hb dX19_init_5 rfl (lv_at hl 0 rfl) ?_
  refine lv_iload_n hx hb dX19_init_6 rfl (lv_at hl 2 rfl) ?_
  refine z_putF (v := .int (iI y1)) hx hb hts in_X19 tyX19 tyX19_ok nmX19 hown hK ho_2 hA0 hS rfl 0 (by decide) q1840 rfl (hnm.trans rfl) rfl rfl rfl (Nat.le_of_ble_eq_true rfl) dX19_init_7 (fun H_6 locs ho_7 hz_8 hk_9 hS1 => ?_)
  have hS := hS1
  have hsz_10 : s.heap.size ≤ H_6.size := hS.1
  have sz_11 := hz_8.trans hz_3
  have fr_12 := fun (q : Nat) (hq : q ≠ h0) => (hk_9 q hq).trans (hk_4 q hq)
  have hS0 := hS
  refine lv_aload_n hx hb dX19_init_10 rfl (lv_at hl 0 rfl) ?_
  refine lv_iload_n hx hb dX19_init_11 rfl (lv_at hl 3 rfl) ?_
  refine z_putF (v := .int (iI y2)) hx hb hts in_X19 tyX19 tyX19_ok nmX19 hown hK ho_7 hA0 hS rfl 1 (by decide) q1841 rfl (hnm.trans rfl) rfl rfl rfl (Nat.le_of_ble_eq_true rfl) dX19_init_12 (fun H_13 locs ho_14 hz_15 hk_16 hS1 => ?_)
  have hS := hS1
  have hsz_17 : s.heap.size ≤ H_13.size := hS.1
  have sz_18 := hz_15.trans sz_11
  have fr_19 := fun (q : Nat) (hq : q ≠ h0) => (hk_16 q hq).trans (fr_12 q hq)
  have hS0 := hS
  refine lv_aload_n hx hb dX19_init_15 rfl (lv_at hl 0 rfl) ?_
  refine lv_iload hx hb dX19_init_16 (lv_at hl 4 rfl) ?_
  refine z_putF (v := .int (iI y3)) hx hb hts in_X19 tyX19 tyX19_ok nmX19 hown hK ho_14 hA0 hS rfl 2 (by decide) q1842 rfl (hnm.trans rfl) rfl rfl rfl (Nat.le_of_ble_eq_true rfl) dX19_init_18 (fun H_20 locs ho_21 hz_22 hk_23 hS1 => ?_)
  have hS := hS1
  have hsz_24 : s.heap.size ≤ H_20.size := hS.1
  have sz_25 := hz_22.trans sz_18
  have fr_26 := fun (q : Nat) (hq : q ≠ h0) => (hk_23 q hq).trans (fr_19 q hq)
  have hS0 := hS
  refine lv_aload_n hx hb dX19_init_21 rfl (lv_at hl 0 rfl) ?_
  refine lv_iload hx hb dX19_init_22 (lv_at hl 5 rfl) ?_
  refine z_putF (v := .int (iI y4)) hx hb hts in_X19 tyX19 tyX19_ok nmX19 hown hK ho_21 hA0 hS rfl 3 (by decide) q1843 rfl (hnm.trans rfl) rfl rfl rfl (Nat.le_of_ble_eq_true rfl) dX19_init_24 (fun H_27 locs ho_28 hz_29 hk_30 hS1 => ?_)
  have hS := hS1
  have hsz_31 : s.heap.size ≤ H_27.size := hS.1
  have sz_32 := hz_29.trans sz_25
  have fr_33 := fun (q : Nat) (hq : q ≠ h0) => (hk_30 q hq).trans (fr_26 q hq)
  have hS0 := hS
  refine lv_aload_n hx hb dX19_init_27 rfl (lv_at hl 0 rfl) ?_
  refine W.objInit hx hb hown (hts _ q1839) (hts _ q116) (hts _ q117) rfl (by rw [hml]; exact hl.1) rfl dX19_init_28 (Nat.le_of_ble_eq_true rfl) (Nat.le_of_ble_eq_true rfl) ?_
  refine W.eq (g2 := F0 m 31 ls []) rfl ?_
  exact z_vret hx hb hret hlocks hS ⟨rfl, ho_28, sz_32, fr_33⟩ (Nat.le_of_ble_eq_true rfl) (Nat.le_of_ble_eq_true rfl) dX19_init_31
theorem hn_X20_init : yX20_init.cls ≠ "java/lang/invoke/MethodHandle" ∧ yX20_init.cls ≠ "java/lang/invoke/VarHandle" ∧ (parseMethodDescriptor yX20_init.desc).map (fun d => d.parameters.length) = some 4 := by decide +kernel
theorem hd_X20_init : yX20_init.cls = "CheckoutDesk$5" ∧ yX20_init.cls ≠ "java/lang/invoke/MethodHandle" ∧ yX20_init.cls ≠ "java/lang/invoke/VarHandle" ∧ (parseMethodDescriptor yX20_init.desc).map (fun d => d.parameters.length) = some 4 := ⟨rfl, hn_X20_init⟩
abbrev rm_X20_init : Room := { frames := 1, cells := 0, slots := 0, locals := 16 }
set_option maxHeartbeats 1000000 in
theorem cc_X20_init (l : Launch) {G : zG} {H0 : Heap} {h0 : Nat} {y1 y2 y3 : Int} {y0 : Nat} (ho : zO G H0 h0 19 [.int (iI 0), .int (iI 0), .int (iI 0), .null]) : zM l yX20_init (ws_ yX20_init cX20_init 5 none) rm_X20_init G (zO1 h0 H0) [.ref h0, .ref y0, .int (iI y1), .int (iI y2), .int (iI y3)] H0 (fun r H1 => r = none ∧ zO G H1 h0 19 [.int (iI y1), .int (iI y2), .int (iI y3), .ref y0] ∧ H1.size = H0.size ∧ ∀ q : Nat, q ≠ h0 → H1[q]? = H0[q]?) (fun _ => False) := by
  refine z_enter (by decide +kernel) (Nat.le_of_ble_eq_true rfl) ?_
  intro p e s m args below meth c ls hx hb hret hml hown hts hlocks htab hnm hK hH hl
  subst hH
  have hAn : ∀ q, s.heap.size ≤ q → (zO1 h0 s.heap) q := fun _ h => Or.inr h
  have hS : va_S (zO1 h0 s.heap) s.heap s.heap [] := va_S.rf
  have hS0 := hS
  have hsz_0 : s.heap.size ≤ s.heap.size := Nat.le_refl _
  have hl : lv_has ls 5 [(0, .ref h0), (1, .ref y0), (2, .int (iI y1)), (3, .int (iI y2)), (4, .int (iI y3))] := hl
  have hA0 : zO1 h0 s.heap h0 := Or.inl rfl
  refine lv_aload_n hx hb dX20_init_0 rfl (lv_at hl 0 rfl) ?_
  refine lv_aload_n hx hb dX20_init_1 rfl (lv_at hl 1 rfl) ?_
  refine z_putF (v := .ref y0) hx hb hts in_X20 tyX20 tyX20_ok nmX20 hown hK ho hA0 hS rfl 3 (by decide) q1872 rfl (hnm.trans rfl) rfl rfl rfl (Nat.le_of_ble_eq_true rfl) dX20_init_2 (fun H_1 locs ho_2 hz_3 hk_4 hS1 => ?_)
  have hS := hS1
  have hsz_5 : s.heap.size ≤ H_1.size := hS.1
  have hS0 := hS
  refine lv_aload_n hx hb dX20_init_5 rfl (lv_at hl 0 rfl) ?_
  refine lv_iload_n hx hb dX20_init_6 rfl (lv_at hl 2 rfl) ?_
  refine z_putF (v := .int (iI y1)) hx hb hts in_X20 tyX20 tyX20_ok nmX20 hown hK ho_2 hA0 hS rfl 0 (by decide) q1869 rfl (hnm.trans rfl) rfl rfl rfl (Nat.le_of_ble_eq_true rfl) dX20_init_7 (fun H_6 locs ho_7 hz_8 hk_9 hS1 => ?_)
  have hS := hS1
  have hsz_10 : s.heap.size ≤ H_6.size := hS.1
  have sz_11 := hz_8.trans hz_3
  have fr_12 := fun (q : Nat) (hq : q ≠ h0) => (hk_9 q hq).trans (hk_4 q hq)
  have hS0 := hS
  refine lv_aload_n hx hb dX20_init_10 rfl (lv_at hl 0 rfl) ?_
  refine lv_iload_n hx hb dX20_init_11 rfl (lv_at hl 3 rfl) ?_
  refine z_putF (v := .int (iI y2)) hx hb hts in_X20 tyX20 tyX20_ok nmX20 hown hK ho_7 hA0 hS rfl 1 (by decide) q1870 rfl (hnm.trans rfl) rfl rfl rfl (Nat.le_of_ble_eq_true rfl) dX20_init_12 (fun H_13 locs ho_14 hz_15 hk_16 hS1 => ?_)
  have hS := hS1
  have hsz_17 : s.heap.size ≤ H_13.size := hS.1
  have sz_18 := hz_15.trans sz_11
  have fr_19 := fun (q : Nat) (hq : q ≠ h0) => (hk_16 q hq).trans (fr_12 q hq)
  have hS0 := hS
  refine lv_aload_n hx hb dX20_init_15 rfl (lv_at hl 0 rfl) ?_
  refine lv_iload hx hb dX20_init_16 (lv_at hl 4 rfl) ?_
  refine z_putF (v := .int (iI y3)) hx hb hts in_X20 tyX20 tyX20_ok nmX20 hown hK ho_14 hA0 hS rfl 2 (by decide) q1871 rfl (hnm.trans rfl) rfl rfl rfl (Nat.le_of_ble_eq_true rfl) dX20_init_18 (fun H_20 locs ho_21 hz_22 hk_23 hS1 => ?_)
  have hS := hS1
  have hsz_24 : s.heap.size ≤ H_20.size := hS.1
  have sz_25 := hz_22.trans sz_18
  have fr_26 := fun (q : Nat) (hq : q ≠ h0) => (hk_23 q hq).trans (fr_19 q hq)
  have hS0 := hS
  refine lv_aload_n hx hb dX20_init_21 rfl (lv_at hl 0 rfl) ?_
  refine W.objInit hx hb hown (hts _ q1868) (hts _ q116) (hts _ q117) rfl (by rw [hml]; exact hl.1) rfl dX20_init_22 (Nat.le_of_ble_eq_true rfl) (Nat.le_of_ble_eq_true rfl) ?_
  refine W.eq (g2 := F0 m 25 ls []) rfl ?_
  exact z_vret hx hb hret hlocks hS ⟨rfl, ho_21, sz_25, fr_26⟩ (Nat.le_of_ble_eq_true rfl) (Nat.le_of_ble_eq_true rfl) dX20_init_25
theorem hn_X21_init : yX21_init.cls ≠ "java/lang/invoke/MethodHandle" ∧ yX21_init.cls ≠ "java/lang/invoke/VarHandle" ∧ (parseMethodDescriptor yX21_init.desc).map (fun d => d.parameters.length) = some 6 := by decide +kernel
theorem hd_X21_init : yX21_init.cls = "CheckoutDesk$6" ∧ yX21_init.cls ≠ "java/lang/invoke/MethodHandle" ∧ yX21_init.cls ≠ "java/lang/invoke/VarHandle" ∧ (parseMethodDescriptor yX21_init.desc).map (fun d => d.parameters.length) = some 6 := ⟨rfl, hn_X21_init⟩
abbrev rm_X21_init : Room := { frames := 1, cells := 0, slots := 0, locals := 16 }
set_option maxHeartbeats 1000000 in
theorem cc_X21_init (l : Launch) {G : zG} {H0 : Heap} {h0 : Nat} {y1 y2 y3 y4 y5 : Int} {y0 : Nat} (ho : zO G H0 h0 20 [.int (iI 0), .int (iI 0), .int (iI 0), .int (iI 0), .int (iI 0), .null]) : zM l yX21_init (ws_ yX21_init cX21_init 7 none) rm_X21_init G (zO1 h0 H0) [.ref h0, .ref y0, .int (iI y1), .int (iI y2), .int (iI y3), .int (iI y4), .int (iI y5)] H0 (fun r H1 => r = none ∧ zO G H1 h0 20 [.int (iI y1), .int (iI y2), .int (iI y3), .int (iI y4), .int (iI y5), .ref y0] ∧ H1.size = H0.size ∧ ∀ q : Nat, q ≠ h0 → H1[q]? = H0[q]?) (fun _ => False) := by
  refine z_enter (by decide +kernel) (Nat.le_of_ble_eq_true rfl) ?_
  intro p e s m args below meth c ls hx hb hret hml hown hts hlocks htab hnm hK hH hl
  subst hH
  have hAn : ∀ q, s.heap.size ≤ q → (zO1 h0 s.heap) q := fun _ h => Or.inr h
  have hS : va_S (zO1 h0 s.heap) s.heap s.heap [] := va_S.rf
  have hS0 := hS
  have hsz_0 : s.heap.size ≤ s.heap.size := Nat.le_refl _
  have hl : lv_has ls 7 [(0, .ref h0), (1, .ref y0), (2, .int (iI y1)), (3, .int (iI y2)), (4, .int (iI y3)), (5, .int (iI y4)), (6, .int (iI y5))] := hl
  have hA0 : zO1 h0 s.heap h0 := Or.inl rfl
  refine lv_aload_n hx hb dX21_init_0 rfl (lv_at hl 0 rfl) ?_
  refine lv_aload_n hx hb dX21_init_1 rfl (lv_at hl 1 rfl) ?_
  refine z_putF (v := .ref y0) hx hb hts in_X21 tyX21 tyX21_ok nmX21 hown hK ho hA0 hS rfl 5 (by decide) q1900 rfl (hnm.trans rfl) rfl rfl rfl (Nat.le_of_ble_eq_true rfl) dX21_init_2 (fun H_1 locs ho_2 hz_3 hk_4 hS1 => ?_)
  have hS := hS1
  have hsz_5 : s.heap.size ≤ H_1.size := hS.1
  have hS0 := hS
  refine lv_aload_n hx hb dX21_init_5 rfl (lv_at hl 0 rfl) ?_
  refine lv_iload_n hx hb dX21_init_6 rfl (lv_at hl 2 rfl) ?_
  refine z_putF (v := .int (iI y1)) hx hb hts in_X21 tyX21 tyX21_ok nmX21 hown hK ho_2 hA0 hS rfl 0 (by decide) q1895 rfl (hnm.trans rfl) rfl rfl rfl (Nat.le_of_ble_eq_true rfl) dX21_init_7 (fun H_6 locs ho_7 hz_8 hk_9 hS1 => ?_)
  have hS := hS1
  have hsz_10 : s.heap.size ≤ H_6.size := hS.1
  have sz_11 := hz_8.trans hz_3
  have fr_12 := fun (q : Nat) (hq : q ≠ h0) => (hk_9 q hq).trans (hk_4 q hq)
  have hS0 := hS
  refine lv_aload_n hx hb dX21_init_10 rfl (lv_at hl 0 rfl) ?_
  refine lv_iload_n hx hb dX21_init_11 rfl (lv_at hl 3 rfl) ?_
  refine z_putF (v := .int (iI y2)) hx hb hts in_X21 tyX21 tyX21_ok nmX21 hown hK ho_7 hA0 hS rfl 1 (by decide) q1896 rfl (hnm.trans rfl) rfl rfl rfl (Nat.le_of_ble_eq_true rfl) dX21_init_12 (fun H_13 locs ho_14 hz_15 hk_16 hS1 => ?_)
  have hS := hS1
  have hsz_17 : s.heap.size ≤ H_13.size := hS.1
  have sz_18 := hz_15.trans sz_11
  have fr_19 := fun (q : Nat) (hq : q ≠ h0) => (hk_16 q hq).trans (fr_12 q hq)
  have hS0 := hS
  refine lv_aload_n hx hb dX21_init_15 rfl (lv_at hl 0 rfl) ?_
  refine lv_iload hx hb dX21_init_16 (lv_at hl 4 rfl) ?_
  refine z_putF (v := .int (iI y3)) hx hb hts in_X21 tyX21 tyX21_ok nmX21 hown hK ho_14 hA0 hS rfl 2 (by decide) q1897 rfl (hnm.trans rfl) rfl rfl rfl (Nat.le_of_ble_eq_true rfl) dX21_init_18 (fun H_20 locs ho_21 hz_22 hk_23 hS1 => ?_)
  have hS := hS1
  have hsz_24 : s.heap.size ≤ H_20.size := hS.1
  have sz_25 := hz_22.trans sz_18
  have fr_26 := fun (q : Nat) (hq : q ≠ h0) => (hk_23 q hq).trans (fr_19 q hq)
  have hS0 := hS
  refine lv_aload_n hx hb dX21_init_21 rfl (lv_at hl 0 rfl) ?_
  refine lv_iload hx hb dX21_init_22 (lv_at hl 5 rfl) ?_
  refine z_putF (v := .int (iI y4)) hx hb hts in_X21 tyX21 tyX21_ok nmX21 hown hK ho_21 hA0 hS rfl 3 (by decide) q1898 rfl (hnm.trans rfl) rfl rfl rfl (Nat.le_of_ble_eq_true rfl) dX21_init_24 (fun H_27 locs ho_28 hz_29 hk_30 hS1 => ?_)
  have hS := hS1
  have hsz_31 : s.heap.size ≤ H_27.size := hS.1
  have sz_32 := hz_29.trans sz_25
  have fr_33 := fun (q : Nat) (hq : q ≠ h0) => (hk_30 q hq).trans (fr_26 q hq)
  have hS0 := hS
  refine lv_aload_n hx hb dX21_init_27 rfl (lv_at hl 0 rfl) ?_
  refine lv_iload hx hb dX21_init_28 (lv_at hl 6 rfl) ?_
  refine z_putF (v := .int (iI y5)) hx hb hts in_X21 tyX21 tyX21_ok nmX21 hown hK ho_28 hA0 hS rfl 4 (by decide) q1899 rfl (hnm.trans rfl) rfl rfl rfl (Nat.le_of_ble_eq_true rfl) dX21_init_30 (fun H_34 locs ho_35 hz_36 hk_37 hS1 => ?_)
  have hS := hS1
  have hsz_38 : s.heap.size ≤ H_34.size := hS.1
  have sz_39 := hz_36.trans sz_32
  have fr_40 := fun (q : Nat) (hq : q ≠ h0) => (hk_37 q hq).trans (fr_33 q hq)
  have hS0 := hS
  refine lv_aload_n hx hb dX21_init_33 rfl (lv_at hl 0 rfl) ?_
  refine W.objInit hx hb hown (hts _ q1894) (hts _ q116) (hts _ q117) rfl (by rw [hml]; exact hl.1) rfl dX21_init_34 (Nat.le_of_ble_eq_true rfl) (Nat.le_of_ble_eq_true rfl) ?_
  refine W.eq (g2 := F0 m 37 ls []) rfl ?_
  exact z_vret hx hb hret hlocks hS ⟨rfl, ho_35, sz_39, fr_40⟩ (Nat.le_of_ble_eq_true rfl) (Nat.le_of_ble_eq_true rfl) dX21_init_37
theorem hn_X22_init : yX22_init.cls ≠ "java/lang/invoke/MethodHandle" ∧ yX22_init.cls ≠ "java/lang/invoke/VarHandle" ∧ (parseMethodDescriptor yX22_init.desc).map (fun d => d.parameters.length) = some 5 := by decide +kernel
theorem hd_X22_init : yX22_init.cls = "CheckoutDesk$7" ∧ yX22_init.cls ≠ "java/lang/invoke/MethodHandle" ∧ yX22_init.cls ≠ "java/lang/invoke/VarHandle" ∧ (parseMethodDescriptor yX22_init.desc).map (fun d => d.parameters.length) = some 5 := ⟨rfl, hn_X22_init⟩
abbrev rm_X22_init : Room := { frames := 1, cells := 0, slots := 0, locals := 16 }
set_option maxHeartbeats 1000000 in
theorem cc_X22_init (l : Launch) {G : zG} {H0 : Heap} {h0 : Nat} {y1 y2 y3 : Int} {y4 : Bool} {y0 : Nat} (ho : zO G H0 h0 21 [.int (iI 0), .int (iI 0), .int (iI 0), .int (iI 0), .null]) : zM l yX22_init (ws_ yX22_init cX22_init 6 none) rm_X22_init G (zO1 h0 H0) [.ref h0, .ref y0, .int (iI y1), .int (iI y2), .int (iI y3), .int (iI (bI y4))] H0 (fun r H1 => r = none ∧ zO G H1 h0 21 [.int (iI y1), .int (iI y2), .int (iI y3), .int (iI (bI y4)), .ref y0] ∧ H1.size = H0.size ∧ ∀ q : Nat, q ≠ h0 → H1[q]? = H0[q]?) (fun _ => False) := by
  refine z_enter (by decide +kernel) (Nat.le_of_ble_eq_true rfl) ?_
  intro p e s m args below meth c ls hx hb hret hml hown hts hlocks htab hnm hK hH hl
  subst hH
  have hAn : ∀ q, s.heap.size ≤ q → (zO1 h0 s.heap) q := fun _ h => Or.inr h
  have hS : va_S (zO1 h0 s.heap) s.heap s.heap [] := va_S.rf
  have hS0 := hS
  have hsz_0 : s.heap.size ≤ s.heap.size := Nat.le_refl _
  have hl : lv_has ls 6 [(0, .ref h0), (1, .ref y0), (2, .int (iI y1)), (3, .int (iI y2)), (4, .int (iI y3)), (5, .int (iI (bI y4)))] := hl
  have hA0 : zO1 h0 s.heap h0 := Or.inl rfl
  refine lv_aload_n hx hb dX22_init_0 rfl (lv_at hl 0 rfl) ?_
  refine lv_aload_n hx hb dX22_init_1 rfl (lv_at hl 1 rfl) ?_
  refine z_putF (v := .ref y0) hx hb hts in_X22 tyX22 tyX22_ok nmX22 hown hK ho hA0 hS rfl 4 (by decide) q1931 rfl (hnm.trans rfl) rfl rfl rfl (Nat.le_of_ble_eq_true rfl) dX22_init_2 (fun H_1 locs ho_2 hz_3 hk_4 hS1 => ?_)
  have hS := hS1
  have hsz_5 : s.heap.size ≤ H_1.size := hS.1
  have hS0 := hS
  refine lv_aload_n hx hb dX22_init_5 rfl (lv_at hl 0 rfl) ?_
  refine lv_iload_n hx hb dX22_init_6 rfl (lv_at hl 2 rfl) ?_
  refine z_putF (v := .int (iI y1)) hx hb hts in_X22 tyX22 tyX22_ok nmX22 hown hK ho_2 hA0 hS rfl 0 (by decide) q1927 rfl (hnm.trans rfl) rfl rfl rfl (Nat.le_of_ble_eq_true rfl) dX22_init_7 (fun H_6 locs ho_7 hz_8 hk_9 hS1 => ?_)
  have hS := hS1
  have hsz_10 : s.heap.size ≤ H_6.size := hS.1
  have sz_11 := hz_8.trans hz_3
  have fr_12 := fun (q : Nat) (hq : q ≠ h0) => (hk_9 q hq).trans (hk_4 q hq)
  have hS0 := hS
  refine lv_aload_n hx hb dX22_init_10 rfl (lv_at hl 0 rfl) ?_
  refine lv_iload_n hx hb dX22_init_11 rfl (lv_at hl 3 rfl) ?_
  refine z_putF (v := .int (iI y2)) hx hb hts in_X22 tyX22 tyX22_ok nmX22 hown hK ho_7 hA0 hS rfl 1 (by decide) q1928 rfl (hnm.trans rfl) rfl rfl rfl (Nat.le_of_ble_eq_true rfl) dX22_init_12 (fun H_13 locs ho_14 hz_15 hk_16 hS1 => ?_)
  have hS := hS1
  have hsz_17 : s.heap.size ≤ H_13.size := hS.1
  have sz_18 := hz_15.trans sz_11
  have fr_19 := fun (q : Nat) (hq : q ≠ h0) => (hk_16 q hq).trans (fr_12 q hq)
  have hS0 := hS
  refine lv_aload_n hx hb dX22_init_15 rfl (lv_at hl 0 rfl) ?_
  refine lv_iload hx hb dX22_init_16 (lv_at hl 4 rfl) ?_
  refine z_putF (v := .int (iI y3)) hx hb hts in_X22 tyX22 tyX22_ok nmX22 hown hK ho_14 hA0 hS rfl 2 (by decide) q1929 rfl (hnm.trans rfl) rfl rfl rfl (Nat.le_of_ble_eq_true rfl) dX22_init_18 (fun H_20 locs ho_21 hz_22 hk_23 hS1 => ?_)
  have hS := hS1
  have hsz_24 : s.heap.size ≤ H_20.size := hS.1
  have sz_25 := hz_22.trans sz_18
  have fr_26 := fun (q : Nat) (hq : q ≠ h0) => (hk_23 q hq).trans (fr_19 q hq)
  have hS0 := hS
  refine lv_aload_n hx hb dX22_init_21 rfl (lv_at hl 0 rfl) ?_
  refine lv_iload hx hb dX22_init_22 (lv_at hl 5 rfl) ?_
  refine z_putF (v := .int (iI (bI y4))) hx hb hts in_X22 tyX22 tyX22_ok nmX22 hown hK ho_21 hA0 hS rfl 3 (by decide) q1930 rfl (hnm.trans rfl) rfl (z_nar _) (z_fitZ _) (Nat.le_of_ble_eq_true rfl) dX22_init_24 (fun H_27 locs ho_28 hz_29 hk_30 hS1 => ?_)
  have hS := hS1
  have hsz_31 : s.heap.size ≤ H_27.size := hS.1
  have sz_32 := hz_29.trans sz_25
  have fr_33 := fun (q : Nat) (hq : q ≠ h0) => (hk_30 q hq).trans (fr_26 q hq)
  have hS0 := hS
  refine lv_aload_n hx hb dX22_init_27 rfl (lv_at hl 0 rfl) ?_
  refine W.objInit hx hb hown (hts _ q1926) (hts _ q116) (hts _ q117) rfl (by rw [hml]; exact hl.1) rfl dX22_init_28 (Nat.le_of_ble_eq_true rfl) (Nat.le_of_ble_eq_true rfl) ?_
  refine W.eq (g2 := F0 m 31 ls []) rfl ?_
  exact z_vret hx hb hret hlocks hS ⟨rfl, ho_28, sz_32, fr_33⟩ (Nat.le_of_ble_eq_true rfl) (Nat.le_of_ble_eq_true rfl) dX22_init_31
theorem hn_X23_init : yX23_init.cls ≠ "java/lang/invoke/MethodHandle" ∧ yX23_init.cls ≠ "java/lang/invoke/VarHandle" ∧ (parseMethodDescriptor yX23_init.desc).map (fun d => d.parameters.length) = some 4 := by decide +kernel
theorem hd_X23_init : yX23_init.cls = "CheckoutDesk$8" ∧ yX23_init.cls ≠ "java/lang/invoke/MethodHandle" ∧ yX23_init.cls ≠ "java/lang/invoke/VarHandle" ∧ (parseMethodDescriptor yX23_init.desc).map (fun d => d.parameters.length) = some 4 := ⟨rfl, hn_X23_init⟩
abbrev rm_X23_init : Room := { frames := 1, cells := 0, slots := 0, locals := 16 }
set_option maxHeartbeats 1000000 in
theorem cc_X23_init (l : Launch) {G : zG} {H0 : Heap} {h0 : Nat} {y1 y2 y3 : Int} {y0 : Nat} (ho : zO G H0 h0 22 [.int (iI 0), .int (iI 0), .int (iI 0), .null]) : zM l yX23_init (ws_ yX23_init cX23_init 5 none) rm_X23_init G (zO1 h0 H0) [.ref h0, .ref y0, .int (iI y1), .int (iI y2), .int (iI y3)] H0 (fun r H1 => r = none ∧ zO G H1 h0 22 [.int (iI y1), .int (iI y2), .int (iI y3), .ref y0] ∧ H1.size = H0.size ∧ ∀ q : Nat, q ≠ h0 → H1[q]? = H0[q]?) (fun _ => False) := by
  refine z_enter (by decide +kernel) (Nat.le_of_ble_eq_true rfl) ?_
  intro p e s m args below meth c ls hx hb hret hml hown hts hlocks htab hnm hK hH hl
  subst hH
  have hAn : ∀ q, s.heap.size ≤ q → (zO1 h0 s.heap) q := fun _ h => Or.inr h
  have hS : va_S (zO1 h0 s.heap) s.heap s.heap [] := va_S.rf
  have hS0 := hS
  have hsz_0 : s.heap.size ≤ s.heap.size := Nat.le_refl _
  have hl : lv_has ls 5 [(0, .ref h0), (1, .ref y0), (2, .int (iI y1)), (3, .int (iI y2)), (4, .int (iI y3))] := hl
  have hA0 : zO1 h0 s.heap h0 := Or.inl rfl
  refine lv_aload_n hx hb dX23_init_0 rfl (lv_at hl 0 rfl) ?_
  refine lv_aload_n hx hb dX23_init_1 rfl (lv_at hl 1 rfl) ?_
  refine z_putF (v := .ref y0) hx hb hts in_X23 tyX23 tyX23_ok nmX23 hown hK ho hA0 hS rfl 3 (by decide) q1959 rfl (hnm.trans rfl) rfl rfl rfl (Nat.le_of_ble_eq_true rfl) dX23_init_2 (fun H_1 locs ho_2 hz_3 hk_4 hS1 => ?_)
  have hS := hS1
  have hsz_5 : s.heap.size ≤ H_1.size := hS.1
  have hS0 := hS
  refine lv_aload_n hx hb dX23_init_5 rfl (lv_at hl 0 rfl) ?_
  refine lv_iload_n hx hb dX23_init_6 rfl (lv_at hl 2 rfl) ?_
  refine z_putF (v := .int (iI y1)) hx hb hts in_X23 tyX23 tyX23_ok nmX23 hown hK ho_2 hA0 hS rfl 0 (by decide) q1956 rfl (hnm.trans rfl) rfl rfl rfl (Nat.le_of_ble_eq_true rfl) dX23_init_7 (fun H_6 locs ho_7 hz_8 hk_9 hS1 => ?_)
  have hS := hS1
  have hsz_10 : s.heap.size ≤ H_6.size := hS.1
  have sz_11 := hz_8.trans hz_3
  have fr_12 := fun (q : Nat) (hq : q ≠ h0) => (hk_9 q hq).trans (hk_4 q hq)
  have hS0 := hS
  refine lv_aload_n hx hb dX23_init_10 rfl (lv_at hl 0 rfl) ?_
  refine lv_iload_n hx hb dX23_init_11 rfl (lv_at hl 3 rfl) ?_
  refine z_putF (v := .int (iI y2)) hx hb hts in_X23 tyX23 tyX23_ok nmX23 hown hK ho_7 hA0 hS rfl 1 (by decide) q1957 rfl (hnm.trans rfl) rfl rfl rfl (Nat.le_of_ble_eq_true rfl) dX23_init_12 (fun H_13 locs ho_14 hz_15 hk_16 hS1 => ?_)
  have hS := hS1
  have hsz_17 : s.heap.size ≤ H_13.size := hS.1
  have sz_18 := hz_15.trans sz_11
  have fr_19 := fun (q : Nat) (hq : q ≠ h0) => (hk_16 q hq).trans (fr_12 q hq)
  have hS0 := hS
  refine lv_aload_n hx hb dX23_init_15 rfl (lv_at hl 0 rfl) ?_
  refine lv_iload hx hb dX23_init_16 (lv_at hl 4 rfl) ?_
  refine z_putF (v := .int (iI y3)) hx hb hts in_X23 tyX23 tyX23_ok nmX23 hown hK ho_14 hA0 hS rfl 2 (by decide) q1958 rfl (hnm.trans rfl) rfl rfl rfl (Nat.le_of_ble_eq_true rfl) dX23_init_18 (fun H_20 locs ho_21 hz_22 hk_23 hS1 => ?_)
  have hS := hS1
  have hsz_24 : s.heap.size ≤ H_20.size := hS.1
  have sz_25 := hz_22.trans sz_18
  have fr_26 := fun (q : Nat) (hq : q ≠ h0) => (hk_23 q hq).trans (fr_19 q hq)
  have hS0 := hS
  refine lv_aload_n hx hb dX23_init_21 rfl (lv_at hl 0 rfl) ?_
  refine W.objInit hx hb hown (hts _ q1955) (hts _ q116) (hts _ q117) rfl (by rw [hml]; exact hl.1) rfl dX23_init_22 (Nat.le_of_ble_eq_true rfl) (Nat.le_of_ble_eq_true rfl) ?_
  refine W.eq (g2 := F0 m 25 ls []) rfl ?_
  exact z_vret hx hb hret hlocks hS ⟨rfl, ho_21, sz_25, fr_26⟩ (Nat.le_of_ble_eq_true rfl) (Nat.le_of_ble_eq_true rfl) dX23_init_25
theorem hn_X24_init : yX24_init.cls ≠ "java/lang/invoke/MethodHandle" ∧ yX24_init.cls ≠ "java/lang/invoke/VarHandle" ∧ (parseMethodDescriptor yX24_init.desc).map (fun d => d.parameters.length) = some 4 := by decide +kernel
theorem hd_X24_init : yX24_init.cls = "CheckoutDesk$9" ∧ yX24_init.cls ≠ "java/lang/invoke/MethodHandle" ∧ yX24_init.cls ≠ "java/lang/invoke/VarHandle" ∧ (parseMethodDescriptor yX24_init.desc).map (fun d => d.parameters.length) = some 4 := ⟨rfl, hn_X24_init⟩
abbrev rm_X24_init : Room := { frames := 1, cells := 0, slots := 0, locals := 16 }
set_option maxHeartbeats 1000000 in
theorem cc_X24_init (l : Launch) {G : zG} {H0 : Heap} {h0 : Nat} {y1 y2 y3 : Int} {y0 : Nat} (ho : zO G H0 h0 23 [.int (iI 0), .int (iI 0), .int (iI 0), .null]) : zM l yX24_init (ws_ yX24_init cX24_init 5 none) rm_X24_init G (zO1 h0 H0) [.ref h0, .ref y0, .int (iI y1), .int (iI y2), .int (iI y3)] H0 (fun r H1 => r = none ∧ zO G H1 h0 23 [.int (iI y1), .int (iI y2), .int (iI y3), .ref y0] ∧ H1.size = H0.size ∧ ∀ q : Nat, q ≠ h0 → H1[q]? = H0[q]?) (fun _ => False) := by
  refine z_enter (by decide +kernel) (Nat.le_of_ble_eq_true rfl) ?_
  intro p e s m args below meth c ls hx hb hret hml hown hts hlocks htab hnm hK hH hl
  subst hH
  have hAn : ∀ q, s.heap.size ≤ q → (zO1 h0 s.heap) q := fun _ h => Or.inr h
  have hS : va_S (zO1 h0 s.heap) s.heap s.heap [] := va_S.rf
  have hS0 := hS
  have hsz_0 : s.heap.size ≤ s.heap.size := Nat.le_refl _
  have hl : lv_has ls 5 [(0, .ref h0), (1, .ref y0), (2, .int (iI y1)), (3, .int (iI y2)), (4, .int (iI y3))] := hl
  have hA0 : zO1 h0 s.heap h0 := Or.inl rfl
  refine lv_aload_n hx hb dX24_init_0 rfl (lv_at hl 0 rfl) ?_
  refine lv_aload_n hx hb dX24_init_1 rfl (lv_at hl 1 rfl) ?_
  refine z_putF (v := .ref y0) hx hb hts in_X24 tyX24 tyX24_ok nmX24 hown hK ho hA0 hS rfl 3 (by decide) q1985 rfl (hnm.trans rfl) rfl rfl rfl (Nat.le_of_ble_eq_true rfl) dX24_init_2 (fun H_1 locs ho_2 hz_3 hk_4 hS1 => ?_)
  have hS := hS1
  have hsz_5 : s.heap.size ≤ H_1.size := hS.1
  have hS0 := hS
  refine lv_aload_n hx hb dX24_init_5 rfl (lv_at hl 0 rfl) ?_
  refine lv_iload_n hx hb dX24_init_6 rfl (lv_at hl 2 rfl) ?_
  refine z_putF (v := .int (iI y1)) hx hb hts in_X24 tyX24 tyX24_ok nmX24 hown hK ho_2 hA0 hS rfl 0 (by decide) q1982 rfl (hnm.trans rfl) rfl rfl rfl (Nat.le_of_ble_eq_true rfl) dX24_init_7 (fun H_6 locs ho_7 hz_8 hk_9 hS1 => ?_)
  have hS := hS1
  have hsz_10 : s.heap.size ≤ H_6.size := hS.1
  have sz_11 := hz_8.trans hz_3
  have fr_12 := fun (q : Nat) (hq : q ≠ h0) => (hk_9 q hq).trans (hk_4 q hq)
  have hS0 := hS
  refine lv_aload_n hx hb dX24_init_10 rfl (lv_at hl 0 rfl) ?_
  refine lv_iload_n hx hb dX24_init_11 rfl (lv_at hl 3 rfl) ?_
  refine z_putF (v := .int (iI y2)) hx hb hts in_X24 tyX24 tyX24_ok nmX24 hown hK ho_7 hA0 hS rfl 1 (by decide) q1983 rfl (hnm.trans rfl) rfl rfl rfl (Nat.le_of_ble_eq_true rfl) dX24_init_12 (fun H_13 locs ho_14 hz_15 hk_16 hS1 => ?_)
  have hS := hS1
  have hsz_17 : s.heap.size ≤ H_13.size := hS.1
  have sz_18 := hz_15.trans sz_11
  have fr_19 := fun (q : Nat) (hq : q ≠ h0) => (hk_16 q hq).trans (fr_12 q hq)
  have hS0 := hS
  refine lv_aload_n hx hb dX24_init_15 rfl (lv_at hl 0 rfl) ?_
  refine lv_iload hx hb dX24_init_16 (lv_at hl 4 rfl) ?_
  refine z_putF (v := .int (iI y3)) hx hb hts in_X24 tyX24 tyX24_ok nmX24 hown hK ho_14 hA0 hS rfl 2 (by decide) q1984 rfl (hnm.trans rfl) rfl rfl rfl (Nat.le_of_ble_eq_true rfl) dX24_init_18 (fun H_20 locs ho_21 hz_22 hk_23 hS1 => ?_)
  have hS := hS1
  have hsz_24 : s.heap.size ≤ H_20.size := hS.1
  have sz_25 := hz_22.trans sz_18
  have fr_26 := fun (q : Nat) (hq : q ≠ h0) => (hk_23 q hq).trans (fr_19 q hq)
  have hS0 := hS
  refine lv_aload_n hx hb dX24_init_21 rfl (lv_at hl 0 rfl) ?_
  refine W.objInit hx hb hown (hts _ q1981) (hts _ q116) (hts _ q117) rfl (by rw [hml]; exact hl.1) rfl dX24_init_22 (Nat.le_of_ble_eq_true rfl) (Nat.le_of_ble_eq_true rfl) ?_
  refine W.eq (g2 := F0 m 25 ls []) rfl ?_
  exact z_vret hx hb hret hlocks hS ⟨rfl, ho_21, sz_25, fr_26⟩ (Nat.le_of_ble_eq_true rfl) (Nat.le_of_ble_eq_true rfl) dX24_init_25
theorem hn_X25_init : yX25_init.cls ≠ "java/lang/invoke/MethodHandle" ∧ yX25_init.cls ≠ "java/lang/invoke/VarHandle" ∧ (parseMethodDescriptor yX25_init.desc).map (fun d => d.parameters.length) = some 4 := by decide +kernel
theorem hd_X25_init : yX25_init.cls = "CheckoutDesk$10" ∧ yX25_init.cls ≠ "java/lang/invoke/MethodHandle" ∧ yX25_init.cls ≠ "java/lang/invoke/VarHandle" ∧ (parseMethodDescriptor yX25_init.desc).map (fun d => d.parameters.length) = some 4 := ⟨rfl, hn_X25_init⟩
abbrev rm_X25_init : Room := { frames := 1, cells := 0, slots := 0, locals := 16 }
set_option maxHeartbeats 1000000 in
theorem cc_X25_init (l : Launch) {G : zG} {H0 : Heap} {h0 : Nat} {y1 y2 y3 : Int} {y0 : Nat} (ho : zO G H0 h0 24 [.int (iI 0), .int (iI 0), .int (iI 0), .null]) : zM l yX25_init (ws_ yX25_init cX25_init 5 none) rm_X25_init G (zO1 h0 H0) [.ref h0, .ref y0, .int (iI y1), .int (iI y2), .int (iI y3)] H0 (fun r H1 => r = none ∧ zO G H1 h0 24 [.int (iI y1), .int (iI y2), .int (iI y3), .ref y0] ∧ H1.size = H0.size ∧ ∀ q : Nat, q ≠ h0 → H1[q]? = H0[q]?) (fun _ => False) := by
  refine z_enter (by decide +kernel) (Nat.le_of_ble_eq_true rfl) ?_
  intro p e s m args below meth c ls hx hb hret hml hown hts hlocks htab hnm hK hH hl
  subst hH
  have hAn : ∀ q, s.heap.size ≤ q → (zO1 h0 s.heap) q := fun _ h => Or.inr h
  have hS : va_S (zO1 h0 s.heap) s.heap s.heap [] := va_S.rf
  have hS0 := hS
  have hsz_0 : s.heap.size ≤ s.heap.size := Nat.le_refl _
  have hl : lv_has ls 5 [(0, .ref h0), (1, .ref y0), (2, .int (iI y1)), (3, .int (iI y2)), (4, .int (iI y3))] := hl
  have hA0 : zO1 h0 s.heap h0 := Or.inl rfl
  refine lv_aload_n hx hb dX25_init_0 rfl (lv_at hl 0 rfl) ?_
  refine lv_aload_n hx hb dX25_init_1 rfl (lv_at hl 1 rfl) ?_
  refine z_putF (v := .ref y0) hx hb hts in_X25 tyX25 tyX25_ok nmX25 hown hK ho hA0 hS rfl 3 (by decide) q2011 rfl (hnm.trans rfl) rfl rfl rfl (Nat.le_of_ble_eq_true rfl) dX25_init_2 (fun H_1 locs ho_2 hz_3 hk_4 hS1 => ?_)
  have hS := hS1
  have hsz_5 : s.heap.size ≤ H_1.size := hS.1
  have hS0 := hS
  refine lv_aload_n hx hb dX25_init_5 rfl (lv_at hl 0 rfl) ?_
  refine lv_iload_n hx hb dX25_init_6 rfl (lv_at hl 2 rfl) ?_
  refine z_putF (v := .int (iI y1)) hx hb hts in_X25 tyX25 tyX25_ok nmX25 hown hK ho_2 hA0 hS rfl 0 (by decide) q2008 rfl (hnm.trans rfl) rfl rfl rfl (Nat.le_of_ble_eq_true rfl) dX25_init_7 (fun H_6 locs ho_7 hz_8 hk_9 hS1 => ?_)
  have hS := hS1
  have hsz_10 : s.heap.size ≤ H_6.size := hS.1
  have sz_11 := hz_8.trans hz_3
  have fr_12 := fun (q : Nat) (hq : q ≠ h0) => (hk_9 q hq).trans (hk_4 q hq)
  have hS0 := hS
  refine lv_aload_n hx hb dX25_init_10 rfl (lv_at hl 0 rfl) ?_
  refine lv_iload_n hx hb dX25_init_11 rfl (lv_at hl 3 rfl) ?_
  refine z_putF (v := .int (iI y2)) hx hb hts in_X25 tyX25 tyX25_ok nmX25 hown hK ho_7 hA0 hS rfl 1 (by decide) q2009 rfl (hnm.trans rfl) rfl rfl rfl (Nat.le_of_ble_eq_true rfl) dX25_init_12 (fun H_13 locs ho_14 hz_15 hk_16 hS1 => ?_)
  have hS := hS1
  have hsz_17 : s.heap.size ≤ H_13.size := hS.1
  have sz_18 := hz_15.trans sz_11
  have fr_19 := fun (q : Nat) (hq : q ≠ h0) => (hk_16 q hq).trans (fr_12 q hq)
  have hS0 := hS
  refine lv_aload_n hx hb dX25_init_15 rfl (lv_at hl 0 rfl) ?_
  refine lv_iload hx hb dX25_init_16 (lv_at hl 4 rfl) ?_
  refine z_putF (v := .int (iI y3)) hx hb hts in_X25 tyX25 tyX25_ok nmX25 hown hK ho_14 hA0 hS rfl 2 (by decide) q2010 rfl (hnm.trans rfl) rfl rfl rfl (Nat.le_of_ble_eq_true rfl) dX25_init_18 (fun H_20 locs ho_21 hz_22 hk_23 hS1 => ?_)
  have hS := hS1
  have hsz_24 : s.heap.size ≤ H_20.size := hS.1
  have sz_25 := hz_22.trans sz_18
  have fr_26 := fun (q : Nat) (hq : q ≠ h0) => (hk_23 q hq).trans (fr_19 q hq)
  have hS0 := hS
  refine lv_aload_n hx hb dX25_init_21 rfl (lv_at hl 0 rfl) ?_
  refine W.objInit hx hb hown (hts _ q2007) (hts _ q116) (hts _ q117) rfl (by rw [hml]; exact hl.1) rfl dX25_init_22 (Nat.le_of_ble_eq_true rfl) (Nat.le_of_ble_eq_true rfl) ?_
  refine W.eq (g2 := F0 m 25 ls []) rfl ?_
  exact z_vret hx hb hret hlocks hS ⟨rfl, ho_21, sz_25, fr_26⟩ (Nat.le_of_ble_eq_true rfl) (Nat.le_of_ble_eq_true rfl) dX25_init_25
theorem hn_X26_init : yX26_init.cls ≠ "java/lang/invoke/MethodHandle" ∧ yX26_init.cls ≠ "java/lang/invoke/VarHandle" ∧ (parseMethodDescriptor yX26_init.desc).map (fun d => d.parameters.length) = some 4 := by decide +kernel
theorem hd_X26_init : yX26_init.cls = "CheckoutDesk$11" ∧ yX26_init.cls ≠ "java/lang/invoke/MethodHandle" ∧ yX26_init.cls ≠ "java/lang/invoke/VarHandle" ∧ (parseMethodDescriptor yX26_init.desc).map (fun d => d.parameters.length) = some 4 := ⟨rfl, hn_X26_init⟩
abbrev rm_X26_init : Room := { frames := 1, cells := 0, slots := 0, locals := 16 }
set_option maxHeartbeats 1000000 in
theorem cc_X26_init (l : Launch) {G : zG} {H0 : Heap} {h0 : Nat} {y1 y2 y3 : Int} {y0 : Nat} (ho : zO G H0 h0 25 [.int (iI 0), .int (iI 0), .int (iI 0), .null]) : zM l yX26_init (ws_ yX26_init cX26_init 5 none) rm_X26_init G (zO1 h0 H0) [.ref h0, .ref y0, .int (iI y1), .int (iI y2), .int (iI y3)] H0 (fun r H1 => r = none ∧ zO G H1 h0 25 [.int (iI y1), .int (iI y2), .int (iI y3), .ref y0] ∧ H1.size = H0.size ∧ ∀ q : Nat, q ≠ h0 → H1[q]? = H0[q]?) (fun _ => False) := by
  refine z_enter (by decide +kernel) (Nat.le_of_ble_eq_true rfl) ?_
  intro p e s m args below meth c ls hx hb hret hml hown hts hlocks htab hnm hK hH hl
  subst hH
  have hAn : ∀ q, s.heap.size ≤ q → (zO1 h0 s.heap) q := fun _ h => Or.inr h
  have hS : va_S (zO1 h0 s.heap) s.heap s.heap [] := va_S.rf
  have hS0 := hS
  have hsz_0 : s.heap.size ≤ s.heap.size := Nat.le_refl _
  have hl : lv_has ls 5 [(0, .ref h0), (1, .ref y0), (2, .int (iI y1)), (3, .int (iI y2)), (4, .int (iI y3))] := hl
  have hA0 : zO1 h0 s.heap h0 := Or.inl rfl
  refine lv_aload_n hx hb dX26_init_0 rfl (lv_at hl 0 rfl) ?_
  refine lv_aload_n hx hb dX26_init_1 rfl (lv_at hl 1 rfl) ?_
  refine z_putF (v := .ref y0) hx hb hts in_X26 tyX26 tyX26_ok nmX26 hown hK ho hA0 hS rfl 3 (by decide) q2037 rfl (hnm.trans rfl) rfl rfl rfl (Nat.le_of_ble_eq_true rfl) dX26_init_2 (fun H_1 locs ho_2 hz_3 hk_4 hS1 => ?_)
  have hS := hS1
  have hsz_5 : s.heap.size ≤ H_1.size := hS.1
  have hS0 := hS
  refine lv_aload_n hx hb dX26_init_5 rfl (lv_at hl 0 rfl) ?_
  refine lv_iload_n hx hb dX26_init_6 rfl (lv_at hl 2 rfl) ?_
  refine z_putF (v := .int (iI y1)) hx hb hts in_X26 tyX26 tyX26_ok nmX26 hown hK ho_2 hA0 hS rfl 0 (by decide) q2034 rfl (hnm.trans rfl) rfl rfl rfl (Nat.le_of_ble_eq_true rfl) dX26_init_7 (fun H_6 locs ho_7 hz_8 hk_9 hS1 => ?_)
  have hS := hS1
  have hsz_10 : s.heap.size ≤ H_6.size := hS.1
  have sz_11 := hz_8.trans hz_3
  have fr_12 := fun (q : Nat) (hq : q ≠ h0) => (hk_9 q hq).trans (hk_4 q hq)
  have hS0 := hS
  refine lv_aload_n hx hb dX26_init_10 rfl (lv_at hl 0 rfl) ?_
  refine lv_iload_n hx hb dX26_init_11 rfl (lv_at hl 3 rfl) ?_
  refine z_putF (v := .int (iI y2)) hx hb hts in_X26 tyX26 tyX26_ok nmX26 hown hK ho_7 hA0 hS rfl 1 (by decide) q2035 rfl (hnm.trans rfl) rfl rfl rfl (Nat.le_of_ble_eq_true rfl) dX26_init_12 (fun H_13 locs ho_14 hz_15 hk_16 hS1 => ?_)
  have hS := hS1
  have hsz_17 : s.heap.size ≤ H_13.size := hS.1
  have sz_18 := hz_15.trans sz_11
  have fr_19 := fun (q : Nat) (hq : q ≠ h0) => (hk_16 q hq).trans (fr_12 q hq)
  have hS0 := hS
  refine lv_aload_n hx hb dX26_init_15 rfl (lv_at hl 0 rfl) ?_
  refine lv_iload hx hb dX26_init_16 (lv_at hl 4 rfl) ?_
  refine z_putF (v := .int (iI y3)) hx hb hts in_X26 tyX26 tyX26_ok nmX26 hown hK ho_14 hA0 hS rfl 2 (by decide) q2036 rfl (hnm.trans rfl) rfl rfl rfl (Nat.le_of_ble_eq_true rfl) dX26_init_18 (fun H_20 locs ho_21 hz_22 hk_23 hS1 => ?_)
  have hS := hS1
  have hsz_24 : s.heap.size ≤ H_20.size := hS.1
  have sz_25 := hz_22.trans sz_18
  have fr_26 := fun (q : Nat) (hq : q ≠ h0) => (hk_23 q hq).trans (fr_19 q hq)
  have hS0 := hS
  refine lv_aload_n hx hb dX26_init_21 rfl (lv_at hl 0 rfl) ?_
  refine W.objInit hx hb hown (hts _ q2033) (hts _ q116) (hts _ q117) rfl (by rw [hml]; exact hl.1) rfl dX26_init_22 (Nat.le_of_ble_eq_true rfl) (Nat.le_of_ble_eq_true rfl) ?_
  refine W.eq (g2 := F0 m 25 ls []) rfl ?_
  exact z_vret hx hb hret hlocks hS ⟨rfl, ho_21, sz_25, fr_26⟩ (Nat.le_of_ble_eq_true rfl) (Nat.le_of_ble_eq_true rfl) dX26_init_25
theorem hn_X27_init : yX27_init.cls ≠ "java/lang/invoke/MethodHandle" ∧ yX27_init.cls ≠ "java/lang/invoke/VarHandle" ∧ (parseMethodDescriptor yX27_init.desc).map (fun d => d.parameters.length) = some 3 := by decide +kernel
theorem hd_X27_init : yX27_init.cls = "CheckoutDesk$12" ∧ yX27_init.cls ≠ "java/lang/invoke/MethodHandle" ∧ yX27_init.cls ≠ "java/lang/invoke/VarHandle" ∧ (parseMethodDescriptor yX27_init.desc).map (fun d => d.parameters.length) = some 3 := ⟨rfl, hn_X27_init⟩
abbrev rm_X27_init : Room := { frames := 1, cells := 0, slots := 0, locals := 16 }
set_option maxHeartbeats 1000000 in
theorem cc_X27_init (l : Launch) {G : zG} {H0 : Heap} {h0 : Nat} {y1 y2 : Int} {y0 : Nat} (ho : zO G H0 h0 26 [.int (iI 0), .int (iI 0), .null]) : zM l yX27_init (ws_ yX27_init cX27_init 4 none) rm_X27_init G (zO1 h0 H0) [.ref h0, .ref y0, .int (iI y1), .int (iI y2)] H0 (fun r H1 => r = none ∧ zO G H1 h0 26 [.int (iI y1), .int (iI y2), .ref y0] ∧ H1.size = H0.size ∧ ∀ q : Nat, q ≠ h0 → H1[q]? = H0[q]?) (fun _ => False) := by
  refine z_enter (by decide +kernel) (Nat.le_of_ble_eq_true rfl) ?_
  intro p e s m args below meth c ls hx hb hret hml hown hts hlocks htab hnm hK hH hl
  subst hH
  have hAn : ∀ q, s.heap.size ≤ q → (zO1 h0 s.heap) q := fun _ h => Or.inr h
  have hS : va_S (zO1 h0 s.heap) s.heap s.heap [] := va_S.rf
  have hS0 := hS
  have hsz_0 : s.heap.size ≤ s.heap.size := Nat.le_refl _
  have hl : lv_has ls 4 [(0, .ref h0), (1, .ref y0), (2, .int (iI y1)), (3, .int (iI y2))] := hl
  have hA0 : zO1 h0 s.heap h0 := Or.inl rfl
  refine lv_aload_n hx hb dX27_init_0 rfl (lv_at hl 0 rfl) ?_
  refine lv_aload_n hx hb dX27_init_1 rfl (lv_at hl 1 rfl) ?_
  refine z_putF (v := .ref y0) hx hb hts in_X27 tyX27 tyX27_ok nmX27 hown hK ho hA0 hS rfl 2 (by decide) q2062 rfl (hnm.trans rfl) rfl rfl rfl (Nat.le_of_ble_eq_true rfl) dX27_init_2 (fun H_1 locs ho_2 hz_3 hk_4 hS1 => ?_)
  have hS := hS1
  have hsz_5 : s.heap.size ≤ H_1.size := hS.1
  have hS0 := hS
  refine lv_aload_n hx hb dX27_init_5 rfl (lv_at hl 0 rfl) ?_
  refine lv_iload_n hx hb dX27_init_6 rfl (lv_at hl 2 rfl) ?_
  refine z_putF (v := .int (iI y1)) hx hb hts in_X27 tyX27 tyX27_ok nmX27 hown hK ho_2 hA0 hS rfl 0 (by decide) q2060 rfl (hnm.trans rfl) rfl rfl rfl (Nat.le_of_ble_eq_true rfl) dX27_init_7 (fun H_6 locs ho_7 hz_8 hk_9 hS1 => ?_)
  have hS := hS1
  have hsz_10 : s.heap.size ≤ H_6.size := hS.1
  have sz_11 := hz_8.trans hz_3
  have fr_12 := fun (q : Nat) (hq : q ≠ h0) => (hk_9 q hq).trans (hk_4 q hq)
  have hS0 := hS
  refine lv_aload_n hx hb dX27_init_10 rfl (lv_at hl 0 rfl) ?_
  refine lv_iload_n hx hb dX27_init_11 rfl (lv_at hl 3 rfl) ?_
  refine z_putF (v := .int (iI y2)) hx hb hts in_X27 tyX27 tyX27_ok nmX27 hown hK ho_7 hA0 hS rfl 1 (by decide) q2061 rfl (hnm.trans rfl) rfl rfl rfl (Nat.le_of_ble_eq_true rfl) dX27_init_12 (fun H_13 locs ho_14 hz_15 hk_16 hS1 => ?_)
  have hS := hS1
  have hsz_17 : s.heap.size ≤ H_13.size := hS.1
  have sz_18 := hz_15.trans sz_11
  have fr_19 := fun (q : Nat) (hq : q ≠ h0) => (hk_16 q hq).trans (fr_12 q hq)
  have hS0 := hS
  refine lv_aload_n hx hb dX27_init_15 rfl (lv_at hl 0 rfl) ?_
  refine W.objInit hx hb hown (hts _ q2059) (hts _ q116) (hts _ q117) rfl (by rw [hml]; exact hl.1) rfl dX27_init_16 (Nat.le_of_ble_eq_true rfl) (Nat.le_of_ble_eq_true rfl) ?_
  refine W.eq (g2 := F0 m 19 ls []) rfl ?_
  exact z_vret hx hb hret hlocks hS ⟨rfl, ho_14, sz_18, fr_19⟩ (Nat.le_of_ble_eq_true rfl) (Nat.le_of_ble_eq_true rfl) dX27_init_19
theorem hn_X28_init : yX28_init.cls ≠ "java/lang/invoke/MethodHandle" ∧ yX28_init.cls ≠ "java/lang/invoke/VarHandle" ∧ (parseMethodDescriptor yX28_init.desc).map (fun d => d.parameters.length) = some 4 := by decide +kernel
theorem hd_X28_init : yX28_init.cls = "CheckoutDesk$13" ∧ yX28_init.cls ≠ "java/lang/invoke/MethodHandle" ∧ yX28_init.cls ≠ "java/lang/invoke/VarHandle" ∧ (parseMethodDescriptor yX28_init.desc).map (fun d => d.parameters.length) = some 4 := ⟨rfl, hn_X28_init⟩
abbrev rm_X28_init : Room := { frames := 1, cells := 0, slots := 0, locals := 16 }
set_option maxHeartbeats 1000000 in
theorem cc_X28_init (l : Launch) {G : zG} {H0 : Heap} {h0 : Nat} {y1 y2 y3 : Int} {y0 : Nat} (ho : zO G H0 h0 27 [.int (iI 0), .int (iI 0), .int (iI 0), .null]) : zM l yX28_init (ws_ yX28_init cX28_init 5 none) rm_X28_init G (zO1 h0 H0) [.ref h0, .ref y0, .int (iI y1), .int (iI y2), .int (iI y3)] H0 (fun r H1 => r = none ∧ zO G H1 h0 27 [.int (iI y1), .int (iI y2), .int (iI y3), .ref y0] ∧ H1.size = H0.size ∧ ∀ q : Nat, q ≠ h0 → H1[q]? = H0[q]?) (fun _ => False) := by
  refine z_enter (by decide +kernel) (Nat.le_of_ble_eq_true rfl) ?_
  intro p e s m args below meth c ls hx hb hret hml hown hts hlocks htab hnm hK hH hl
  subst hH
  have hAn : ∀ q, s.heap.size ≤ q → (zO1 h0 s.heap) q := fun _ h => Or.inr h
  have hS : va_S (zO1 h0 s.heap) s.heap s.heap [] := va_S.rf
  have hS0 := hS
  have hsz_0 : s.heap.size ≤ s.heap.size := Nat.le_refl _
  have hl : lv_has ls 5 [(0, .ref h0), (1, .ref y0), (2, .int (iI y1)), (3, .int (iI y2)), (4, .int (iI y3))] := hl
  have hA0 : zO1 h0 s.heap h0 := Or.inl rfl
  refine lv_aload_n hx hb dX28_init_0 rfl (lv_at hl 0 rfl) ?_
  refine lv_aload_n hx hb dX28_init_1 rfl (lv_at hl 1 rfl) ?_
  refine z_putF (v := .ref y0) hx hb hts in_X28 tyX28 tyX28_ok nmX28 hown hK ho hA0 hS rfl 3 (by decide) q2086 rfl (hnm.trans rfl) rfl rfl rfl (Nat.le_of_ble_eq_true rfl) dX28_init_2 (fun H_1 locs ho_2 hz_3 hk_4 hS1 => ?_)
  have hS := hS1
  have hsz_5 : s.heap.size ≤ H_1.size := hS.1
  have hS0 := hS
  refine lv_aload_n hx hb dX28_init_5 rfl (lv_at hl 0 rfl) ?_
  refine lv_iload_n hx hb dX28_init_6 rfl (lv_at hl 2 rfl) ?_
  refine z_putF (v := .int (iI y1)) hx hb hts in_X28 tyX28 tyX28_ok nmX28 hown hK ho_2 hA0 hS rfl 0 (by decide) q2083 rfl (hnm.trans rfl) rfl rfl rfl (Nat.le_of_ble_eq_true rfl) dX28_init_7 (fun H_6 locs ho_7 hz_8 hk_9 hS1 => ?_)
  have hS := hS1
  have hsz_10 : s.heap.size ≤ H_6.size := hS.1
  have sz_11 := hz_8.trans hz_3
  have fr_12 := fun (q : Nat) (hq : q ≠ h0) => (hk_9 q hq).trans (hk_4 q hq)
  have hS0 := hS
  refine lv_aload_n hx hb dX28_init_10 rfl (lv_at hl 0 rfl) ?_
  refine lv_iload_n hx hb dX28_init_11 rfl (lv_at hl 3 rfl) ?_
  refine z_putF (v := .int (iI y2)) hx hb hts in_X28 tyX28 tyX28_ok nmX28 hown hK ho_7 hA0 hS rfl 1 (by decide) q2084 rfl (hnm.trans rfl) rfl rfl rfl (Nat.le_of_ble_eq_true rfl) dX28_init_12 (fun H_13 locs ho_14 hz_15 hk_16 hS1 => ?_)
  have hS := hS1
  have hsz_17 : s.heap.size ≤ H_13.size := hS.1
  have sz_18 := hz_15.trans sz_11
  have fr_19 := fun (q : Nat) (hq : q ≠ h0) => (hk_16 q hq).trans (fr_12 q hq)
  have hS0 := hS
  refine lv_aload_n hx hb dX28_init_15 rfl (lv_at hl 0 rfl) ?_
  refine lv_iload hx hb dX28_init_16 (lv_at hl 4 rfl) ?_
  refine z_putF (v := .int (iI y3)) hx hb hts in_X28 tyX28 tyX28_ok nmX28 hown hK ho_14 hA0 hS rfl 2 (by decide) q2085 rfl (hnm.trans rfl) rfl rfl rfl (Nat.le_of_ble_eq_true rfl) dX28_init_18 (fun H_20 locs ho_21 hz_22 hk_23 hS1 => ?_)
  have hS := hS1
  have hsz_24 : s.heap.size ≤ H_20.size := hS.1
  have sz_25 := hz_22.trans sz_18
  have fr_26 := fun (q : Nat) (hq : q ≠ h0) => (hk_23 q hq).trans (fr_19 q hq)
  have hS0 := hS
  refine lv_aload_n hx hb dX28_init_21 rfl (lv_at hl 0 rfl) ?_
  refine W.objInit hx hb hown (hts _ q2082) (hts _ q116) (hts _ q117) rfl (by rw [hml]; exact hl.1) rfl dX28_init_22 (Nat.le_of_ble_eq_true rfl) (Nat.le_of_ble_eq_true rfl) ?_
  refine W.eq (g2 := F0 m 25 ls []) rfl ?_
  exact z_vret hx hb hret hlocks hS ⟨rfl, ho_21, sz_25, fr_26⟩ (Nat.le_of_ble_eq_true rfl) (Nat.le_of_ble_eq_true rfl) dX28_init_25
theorem hn_X29_init : yX29_init.cls ≠ "java/lang/invoke/MethodHandle" ∧ yX29_init.cls ≠ "java/lang/invoke/VarHandle" ∧ (parseMethodDescriptor yX29_init.desc).map (fun d => d.parameters.length) = some 4 := by decide +kernel
theorem hd_X29_init : yX29_init.cls = "CheckoutDesk$14" ∧ yX29_init.cls ≠ "java/lang/invoke/MethodHandle" ∧ yX29_init.cls ≠ "java/lang/invoke/VarHandle" ∧ (parseMethodDescriptor yX29_init.desc).map (fun d => d.parameters.length) = some 4 := ⟨rfl, hn_X29_init⟩
abbrev rm_X29_init : Room := { frames := 1, cells := 0, slots := 0, locals := 16 }
set_option maxHeartbeats 1000000 in
theorem cc_X29_init (l : Launch) {G : zG} {H0 : Heap} {h0 : Nat} {y1 y2 y3 : Int} {y0 : Nat} (ho : zO G H0 h0 28 [.int (iI 0), .int (iI 0), .int (iI 0), .null]) : zM l yX29_init (ws_ yX29_init cX29_init 5 none) rm_X29_init G (zO1 h0 H0) [.ref h0, .ref y0, .int (iI y1), .int (iI y2), .int (iI y3)] H0 (fun r H1 => r = none ∧ zO G H1 h0 28 [.int (iI y1), .int (iI y2), .int (iI y3), .ref y0] ∧ H1.size = H0.size ∧ ∀ q : Nat, q ≠ h0 → H1[q]? = H0[q]?) (fun _ => False) := by
  refine z_enter (by decide +kernel) (Nat.le_of_ble_eq_true rfl) ?_
  intro p e s m args below meth c ls hx hb hret hml hown hts hlocks htab hnm hK hH hl
  subst hH
  have hAn : ∀ q, s.heap.size ≤ q → (zO1 h0 s.heap) q := fun _ h => Or.inr h
  have hS : va_S (zO1 h0 s.heap) s.heap s.heap [] := va_S.rf
  have hS0 := hS
  have hsz_0 : s.heap.size ≤ s.heap.size := Nat.le_refl _
  have hl : lv_has ls 5 [(0, .ref h0), (1, .ref y0), (2, .int (iI y1)), (3, .int (iI y2)), (4, .int (iI y3))] := hl
  have hA0 : zO1 h0 s.heap h0 := Or.inl rfl
  refine lv_aload_n hx hb dX29_init_0 rfl (lv_at hl 0 rfl) ?_
  refine lv_aload_n hx hb dX29_init_1 rfl (lv_at hl 1 rfl) ?_
  refine z_putF (v := .ref y0) hx hb hts in_X29 tyX29 tyX29_ok nmX29 hown hK ho hA0 hS rfl 3 (by decide) q2112 rfl (hnm.trans rfl) rfl rfl rfl (Nat.le_of_ble_eq_true rfl) dX29_init_2 (fun H_1 locs ho_2 hz_3 hk_4 hS1 => ?_)
  have hS := hS1
  have hsz_5 : s.heap.size ≤ H_1.size := hS.1
  have hS0 := hS
  refine lv_aload_n hx hb dX29_init_5 rfl (lv_at hl 0 rfl) ?_
  refine lv_iload_n hx hb dX29_init_6 rfl (lv_at hl 2 rfl) ?_
  refine z_putF (v := .int (iI y1)) hx hb hts in_X29 tyX29 tyX29_ok nmX29 hown hK ho_2 hA0 hS rfl 0 (by decide) q2109 rfl (hnm.trans rfl) rfl rfl rfl (Nat.le_of_ble_eq_true rfl) dX29_init_7 (fun H_6 locs ho_7 hz_8 hk_9 hS1 => ?_)
  have hS := hS1
  have hsz_10 : s.heap.size ≤ H_6.size := hS.1
  have sz_11 := hz_8.trans hz_3
  have fr_12 := fun (q : Nat) (hq : q ≠ h0) => (hk_9 q hq).trans (hk_4 q hq)
  have hS0 := hS
  refine lv_aload_n hx hb dX29_init_10 rfl (lv_at hl 0 rfl) ?_
  refine lv_iload_n hx hb dX29_init_11 rfl (lv_at hl 3 rfl) ?_
  refine z_putF (v := .int (iI y2)) hx hb hts in_X29 tyX29 tyX29_ok nmX29 hown hK ho_7 hA0 hS rfl 1 (by decide) q2110 rfl (hnm.trans rfl) rfl rfl rfl (Nat.le_of_ble_eq_true rfl) dX29_init_12 (fun H_13 locs ho_14 hz_15 hk_16 hS1 => ?_)
  have hS := hS1
  have hsz_17 : s.heap.size ≤ H_13.size := hS.1
  have sz_18 := hz_15.trans sz_11
  have fr_19 := fun (q : Nat) (hq : q ≠ h0) => (hk_16 q hq).trans (fr_12 q hq)
  have hS0 := hS
  refine lv_aload_n hx hb dX29_init_15 rfl (lv_at hl 0 rfl) ?_
  refine lv_iload hx hb dX29_init_16 (lv_at hl 4 rfl) ?_
  refine z_putF (v := .int (iI y3)) hx hb hts in_X29 tyX29 tyX29_ok nmX29 hown hK ho_14 hA0 hS rfl 2 (by decide) q2111 rfl (hnm.trans rfl) rfl rfl rfl (Nat.le_of_ble_eq_true rfl) dX29_init_18 (fun H_20 locs ho_21 hz_22 hk_23 hS1 => ?_)
  have hS := hS1
  have hsz_24 : s.heap.size ≤ H_20.size := hS.1
  have sz_25 := hz_22.trans sz_18
  have fr_26 := fun (q : Nat) (hq : q ≠ h0) => (hk_23 q hq).trans (fr_19 q hq)
  have hS0 := hS
  refine lv_aload_n hx hb dX29_init_21 rfl (lv_at hl 0 rfl) ?_
  refine W.objInit hx hb hown (hts _ q2108) (hts _ q116) (hts _ q117) rfl (by rw [hml]; exact hl.1) rfl dX29_init_22 (Nat.le_of_ble_eq_true rfl) (Nat.le_of_ble_eq_true rfl) ?_
  refine W.eq (g2 := F0 m 25 ls []) rfl ?_
  exact z_vret hx hb hret hlocks hS ⟨rfl, ho_21, sz_25, fr_26⟩ (Nat.le_of_ble_eq_true rfl) (Nat.le_of_ble_eq_true rfl) dX29_init_25
theorem hn_X30_init : yX30_init.cls ≠ "java/lang/invoke/MethodHandle" ∧ yX30_init.cls ≠ "java/lang/invoke/VarHandle" ∧ (parseMethodDescriptor yX30_init.desc).map (fun d => d.parameters.length) = some 5 := by decide +kernel
theorem hd_X30_init : yX30_init.cls = "CheckoutDesk$15" ∧ yX30_init.cls ≠ "java/lang/invoke/MethodHandle" ∧ yX30_init.cls ≠ "java/lang/invoke/VarHandle" ∧ (parseMethodDescriptor yX30_init.desc).map (fun d => d.parameters.length) = some 5 := ⟨rfl, hn_X30_init⟩
abbrev rm_X30_init : Room := { frames := 1, cells := 0, slots := 0, locals := 16 }
set_option maxHeartbeats 1000000 in
theorem cc_X30_init (l : Launch) {G : zG} {H0 : Heap} {h0 : Nat} {y1 y2 y3 y4 : Int} {y0 : Nat} (ho : zO G H0 h0 29 [.int (iI 0), .int (iI 0), .int (iI 0), .int (iI 0), .null]) : zM l yX30_init (ws_ yX30_init cX30_init 6 none) rm_X30_init G (zO1 h0 H0) [.ref h0, .ref y0, .int (iI y1), .int (iI y2), .int (iI y3), .int (iI y4)] H0 (fun r H1 => r = none ∧ zO G H1 h0 29 [.int (iI y1), .int (iI y2), .int (iI y3), .int (iI y4), .ref y0] ∧ H1.size = H0.size ∧ ∀ q : Nat, q ≠ h0 → H1[q]? = H0[q]?) (fun _ => False) := by
  refine z_enter (by decide +kernel) (Nat.le_of_ble_eq_true rfl) ?_
  intro p e s m args below meth c ls hx hb hret hml hown hts hlocks htab hnm hK hH hl
  subst hH
  have hAn : ∀ q, s.heap.size ≤ q → (zO1 h0 s.heap) q := fun _ h => Or.inr h
  have hS : va_S (zO1 h0 s.heap) s.heap s.heap [] := va_S.rf
  have hS0 := hS
  have hsz_0 : s.heap.size ≤ s.heap.size := Nat.le_refl _
  have hl : lv_has ls 6 [(0, .ref h0), (1, .ref y0), (2, .int (iI y1)), (3, .int (iI y2)), (4, .int (iI y3)), (5, .int (iI y4))] := hl
  have hA0 : zO1 h0 s.heap h0 := Or.inl rfl
  refine lv_aload_n hx hb dX30_init_0 rfl (lv_at hl 0 rfl) ?_
  refine lv_aload_n hx hb dX30_init_1 rfl (lv_at hl 1 rfl) ?_
  refine z_putF (v := .ref y0) hx hb hts in_X30 tyX30 tyX30_ok nmX30 hown hK ho hA0 hS rfl 4 (by decide) q2139 rfl (hnm.trans rfl) rfl rfl rfl (Nat.le_of_ble_eq_true rfl) dX30_init_2 (fun H_1 locs ho_2 hz_3 hk_4 hS1 => ?_)
  have hS := hS1
  have hsz_5 : s.heap.size ≤ H_1.size := hS.1
  have hS0 := hS
  refine lv_aload_n hx hb dX30_init_5 rfl (lv_at hl 0 rfl) ?_
  refine lv_iload_n hx hb dX30_init_6 rfl (lv_at hl 2 rfl) ?_
  refine z_putF (v := .int (iI y1)) hx hb hts in_X30 tyX30 tyX30_ok nmX30 hown hK ho_2 hA0 hS rfl 0 (by decide) q2135 rfl (hnm.trans rfl) rfl rfl rfl (Nat.le_of_ble_eq_true rfl) dX30_init_7 (fun H_6 locs ho_7 hz_8 hk_9 hS1 => ?_)
  have hS := hS1
  have hsz_10 : s.heap.size ≤ H_6.size := hS.1
  have sz_11 := hz_8.trans hz_3
  have fr_12 := fun (q : Nat) (hq : q ≠ h0) => (hk_9 q hq).trans (hk_4 q hq)
  have hS0 := hS
  refine lv_aload_n hx hb dX30_init_10 rfl (lv_at hl 0 rfl) ?_
  refine lv_iload_n hx hb dX30_init_11 rfl (lv_at hl 3 rfl) ?_
  refine z_putF (v := .int (iI y2)) hx hb hts in_X30 tyX30 tyX30_ok nmX30 hown hK ho_7 hA0 hS rfl 1 (by decide) q2136 rfl (hnm.trans rfl) rfl rfl rfl (Nat.le_of_ble_eq_true rfl) dX30_init_12 (fun H_13 locs ho_14 hz_15 hk_16 hS1 => ?_)
  have hS := hS1
  have hsz_17 : s.heap.size ≤ H_13.size := hS.1
  have sz_18 := hz_15.trans sz_11
  have fr_19 := fun (q : Nat) (hq : q ≠ h0) => (hk_16 q hq).trans (fr_12 q hq)
  have hS0 := hS
  refine lv_aload_n hx hb dX30_init_15 rfl (lv_at hl 0 rfl) ?_
  refine lv_iload hx hb dX30_init_16 (lv_at hl 4 rfl) ?_
  refine z_putF (v := .int (iI y3)) hx hb hts in_X30 tyX30 tyX30_ok nmX30 hown hK ho_14 hA0 hS rfl 2 (by decide) q2137 rfl (hnm.trans rfl) rfl rfl rfl (Nat.le_of_ble_eq_true rfl) dX30_init_18 (fun H_20 locs ho_21 hz_22 hk_23 hS1 => ?_)
  have hS := hS1
  have hsz_24 : s.heap.size ≤ H_20.size := hS.1
  have sz_25 := hz_22.trans sz_18
  have fr_26 := fun (q : Nat) (hq : q ≠ h0) => (hk_23 q hq).trans (fr_19 q hq)
  have hS0 := hS
  refine lv_aload_n hx hb dX30_init_21 rfl (lv_at hl 0 rfl) ?_
  refine lv_iload hx hb dX30_init_22 (lv_at hl 5 rfl) ?_
  refine z_putF (v := .int (iI y4)) hx hb hts in_X30 tyX30 tyX30_ok nmX30 hown hK ho_21 hA0 hS rfl 3 (by decide) q2138 rfl (hnm.trans rfl) rfl rfl rfl (Nat.le_of_ble_eq_true rfl) dX30_init_24 (fun H_27 locs ho_28 hz_29 hk_30 hS1 => ?_)
  have hS := hS1
  have hsz_31 : s.heap.size ≤ H_27.size := hS.1
  have sz_32 := hz_29.trans sz_25
  have fr_33 := fun (q : Nat) (hq : q ≠ h0) => (hk_30 q hq).trans (fr_26 q hq)
  have hS0 := hS
  refine lv_aload_n hx hb dX30_init_27 rfl (lv_at hl 0 rfl) ?_
  refine W.objInit hx hb hown (hts _ q2134) (hts _ q116) (hts _ q117) rfl (by rw [hml]; exact hl.1) rfl dX30_init_28 (Nat.le_of_ble_eq_true rfl) (Nat.le_of_ble_eq_true rfl) ?_
  refine W.eq (g2 := F0 m 31 ls []) rfl ?_
  exact z_vret hx hb hret hlocks hS ⟨rfl, ho_28, sz_32, fr_33⟩ (Nat.le_of_ble_eq_true rfl) (Nat.le_of_ble_eq_true rfl) dX30_init_31
theorem hn_X31_init : yX31_init.cls ≠ "java/lang/invoke/MethodHandle" ∧ yX31_init.cls ≠ "java/lang/invoke/VarHandle" ∧ (parseMethodDescriptor yX31_init.desc).map (fun d => d.parameters.length) = some 3 := by decide +kernel
theorem hd_X31_init : yX31_init.cls = "CheckoutDesk$16" ∧ yX31_init.cls ≠ "java/lang/invoke/MethodHandle" ∧ yX31_init.cls ≠ "java/lang/invoke/VarHandle" ∧ (parseMethodDescriptor yX31_init.desc).map (fun d => d.parameters.length) = some 3 := ⟨rfl, hn_X31_init⟩
abbrev rm_X31_init : Room := { frames := 1, cells := 0, slots := 0, locals := 16 }
set_option maxHeartbeats 1000000 in
theorem cc_X31_init (l : Launch) {G : zG} {H0 : Heap} {h0 : Nat} {y1 y2 : Int} {y0 : Nat} (ho : zO G H0 h0 30 [.int (iI 0), .int (iI 0), .null]) : zM l yX31_init (ws_ yX31_init cX31_init 4 none) rm_X31_init G (zO1 h0 H0) [.ref h0, .ref y0, .int (iI y1), .int (iI y2)] H0 (fun r H1 => r = none ∧ zO G H1 h0 30 [.int (iI y1), .int (iI y2), .ref y0] ∧ H1.size = H0.size ∧ ∀ q : Nat, q ≠ h0 → H1[q]? = H0[q]?) (fun _ => False) := by
  refine z_enter (by decide +kernel) (Nat.le_of_ble_eq_true rfl) ?_
  intro p e s m args below meth c ls hx hb hret hml hown hts hlocks htab hnm hK hH hl
  subst hH
  have hAn : ∀ q, s.heap.size ≤ q → (zO1 h0 s.heap) q := fun _ h => Or.inr h
  have hS : va_S (zO1 h0 s.heap) s.heap s.heap [] := va_S.rf
  have hS0 := hS
  have hsz_0 : s.heap.size ≤ s.heap.size := Nat.le_refl _
  have hl : lv_has ls 4 [(0, .ref h0), (1, .ref y0), (2, .int (iI y1)), (3, .int (iI y2))] := hl
  have hA0 : zO1 h0 s.heap h0 := Or.inl rfl
  refine lv_aload_n hx hb dX31_init_0 rfl (lv_at hl 0 rfl) ?_
  refine lv_aload_n hx hb dX31_init_1 rfl (lv_at hl 1 rfl) ?_
  refine z_putF (v := .ref y0) hx hb hts in_X31 tyX31 tyX31_ok nmX31 hown hK ho hA0 hS rfl 2 (by decide) q2166 rfl (hnm.trans rfl) rfl rfl rfl (Nat.le_of_ble_eq_true rfl) dX31_init_2 (fun H_1 locs ho_2 hz_3 hk_4 hS1 => ?_)
  have hS := hS1
  have hsz_5 : s.heap.size ≤ H_1.size := hS.1
  have hS0 := hS
  refine lv_aload_n hx hb dX31_init_5 rfl (lv_at hl 0 rfl) ?_
  refine lv_iload_n hx hb dX31_init_6 rfl (lv_at hl 2 rfl) ?_
  refine z_putF (v := .int (iI y1)) hx hb hts in_X31 tyX31 tyX31_ok nmX31 hown hK ho_2 hA0 hS rfl 0 (by decide) q2164 rfl (hnm.trans rfl) rfl rfl rfl (Nat.le_of_ble_eq_true rfl) dX31_init_7 (fun H_6 locs ho_7 hz_8 hk_9 hS1 => ?_)
  have hS := hS1
  have hsz_10 : s.heap.size ≤ H_6.size := hS.1
  have sz_11 := hz_8.trans hz_3
  have fr_12 := fun (q : Nat) (hq : q ≠ h0) => (hk_9 q hq).trans (hk_4 q hq)
  have hS0 := hS
  refine lv_aload_n hx hb dX31_init_10 rfl (lv_at hl 0 rfl) ?_
  refine lv_iload_n hx hb dX31_init_11 rfl (lv_at hl 3 rfl) ?_
  refine z_putF (v := .int (iI y2)) hx hb hts in_X31 tyX31 tyX31_ok nmX31 hown hK ho_7 hA0 hS rfl 1 (by decide) q2165 rfl (hnm.trans rfl) rfl rfl rfl (Nat.le_of_ble_eq_true rfl) dX31_init_12 (fun H_13 locs ho_14 hz_15 hk_16 hS1 => ?_)
  have hS := hS1
  have hsz_17 : s.heap.size ≤ H_13.size := hS.1
  have sz_18 := hz_15.trans sz_11
  have fr_19 := fun (q : Nat) (hq : q ≠ h0) => (hk_16 q hq).trans (fr_12 q hq)
  have hS0 := hS
  refine lv_aload_n hx hb dX31_init_15 rfl (lv_at hl 0 rfl) ?_
  refine W.objInit hx hb hown (hts _ q2163) (hts _ q116) (hts _ q117) rfl (by rw [hml]; exact hl.1) rfl dX31_init_16 (Nat.le_of_ble_eq_true rfl) (Nat.le_of_ble_eq_true rfl) ?_
  refine W.eq (g2 := F0 m 19 ls []) rfl ?_
  exact z_vret hx hb hret hlocks hS ⟨rfl, ho_14, sz_18, fr_19⟩ (Nat.le_of_ble_eq_true rfl) (Nat.le_of_ble_eq_true rfl) dX31_init_19
theorem hn_X32_init : yX32_init.cls ≠ "java/lang/invoke/MethodHandle" ∧ yX32_init.cls ≠ "java/lang/invoke/VarHandle" ∧ (parseMethodDescriptor yX32_init.desc).map (fun d => d.parameters.length) = some 3 := by decide +kernel
theorem hd_X32_init : yX32_init.cls = "CheckoutDesk$17" ∧ yX32_init.cls ≠ "java/lang/invoke/MethodHandle" ∧ yX32_init.cls ≠ "java/lang/invoke/VarHandle" ∧ (parseMethodDescriptor yX32_init.desc).map (fun d => d.parameters.length) = some 3 := ⟨rfl, hn_X32_init⟩
abbrev rm_X32_init : Room := { frames := 1, cells := 0, slots := 0, locals := 16 }
set_option maxHeartbeats 1000000 in
theorem cc_X32_init (l : Launch) {G : zG} {H0 : Heap} {h0 : Nat} {y1 : Int} {y0 y2 : Nat} (ho : zO G H0 h0 31 [.int (iI 0), .null, .null]) : zM l yX32_init (ws_ yX32_init cX32_init 4 none) rm_X32_init G (zO1 h0 H0) [.ref h0, .ref y0, .int (iI y1), .ref y2] H0 (fun r H1 => r = none ∧ zO G H1 h0 31 [.int (iI y1), .ref y2, .ref y0] ∧ H1.size = H0.size ∧ ∀ q : Nat, q ≠ h0 → H1[q]? = H0[q]?) (fun _ => False) := by
  refine z_enter (by decide +kernel) (Nat.le_of_ble_eq_true rfl) ?_
  intro p e s m args below meth c ls hx hb hret hml hown hts hlocks htab hnm hK hH hl
  subst hH
  have hAn : ∀ q, s.heap.size ≤ q → (zO1 h0 s.heap) q := fun _ h => Or.inr h
  have hS : va_S (zO1 h0 s.heap) s.heap s.heap [] := va_S.rf
  have hS0 := hS
  have hsz_0 : s.heap.size ≤ s.heap.size := Nat.le_refl _
  have hl : lv_has ls 4 [(0, .ref h0), (1, .ref y0), (2, .int (iI y1)), (3, .ref y2)] := hl
  have hA0 : zO1 h0 s.heap h0 := Or.inl rfl
  refine lv_aload_n hx hb dX32_init_0 rfl (lv_at hl 0 rfl) ?_
  refine lv_aload_n hx hb dX32_init_1 rfl (lv_at hl 1 rfl) ?_
  refine z_putF (v := .ref y0) hx hb hts in_X32 tyX32 tyX32_ok nmX32 hown hK ho hA0 hS rfl 2 (by decide) q2285 rfl (hnm.trans rfl) rfl rfl rfl (Nat.le_of_ble_eq_true rfl) dX32_init_2 (fun H_1 locs ho_2 hz_3 hk_4 hS1 => ?_)
  have hS := hS1
  have hsz_5 : s.heap.size ≤ H_1.size := hS.1
  have hS0 := hS
  refine lv_aload_n hx hb dX32_init_5 rfl (lv_at hl 0 rfl) ?_
  refine lv_iload_n hx hb dX32_init_6 rfl (lv_at hl 2 rfl) ?_
  refine z_putF (v := .int (iI y1)) hx hb hts in_X32 tyX32 tyX32_ok nmX32 hown hK ho_2 hA0 hS rfl 0 (by decide) q2283 rfl (hnm.trans rfl) rfl rfl rfl (Nat.le_of_ble_eq_true rfl) dX32_init_7 (fun H_6 locs ho_7 hz_8 hk_9 hS1 => ?_)
  have hS := hS1
  have hsz_10 : s.heap.size ≤ H_6.size := hS.1
  have sz_11 := hz_8.trans hz_3
  have fr_12 := fun (q : Nat) (hq : q ≠ h0) => (hk_9 q hq).trans (hk_4 q hq)
  have hS0 := hS
  refine lv_aload_n hx hb dX32_init_10 rfl (lv_at hl 0 rfl) ?_
  refine lv_aload_n hx hb dX32_init_11 rfl (lv_at hl 3 rfl) ?_
  refine z_putF (v := .ref y2) hx hb hts in_X32 tyX32 tyX32_ok nmX32 hown hK ho_7 hA0 hS rfl 1 (by decide) q2284 rfl (hnm.trans rfl) rfl rfl rfl (Nat.le_of_ble_eq_true rfl) dX32_init_12 (fun H_13 locs ho_14 hz_15 hk_16 hS1 => ?_)
  have hS := hS1
  have hsz_17 : s.heap.size ≤ H_13.size := hS.1
  have sz_18 := hz_15.trans sz_11
  have fr_19 := fun (q : Nat) (hq : q ≠ h0) => (hk_16 q hq).trans (fr_12 q hq)
  have hS0 := hS
  refine lv_aload_n hx hb dX32_init_15 rfl (lv_at hl 0 rfl) ?_
  refine W.objInit hx hb hown (hts _ q2282) (hts _ q116) (hts _ q117) rfl (by rw [hml]; exact hl.1) rfl dX32_init_16 (Nat.le_of_ble_eq_true rfl) (Nat.le_of_ble_eq_true rfl) ?_
  refine W.eq (g2 := F0 m 19 ls []) rfl ?_
  exact z_vret hx hb hret hlocks hS ⟨rfl, ho_14, sz_18, fr_19⟩ (Nat.le_of_ble_eq_true rfl) (Nat.le_of_ble_eq_true rfl) dX32_init_19
theorem hn_X33_init : yX33_init.cls ≠ "java/lang/invoke/MethodHandle" ∧ yX33_init.cls ≠ "java/lang/invoke/VarHandle" ∧ (parseMethodDescriptor yX33_init.desc).map (fun d => d.parameters.length) = some 1 := by decide +kernel
theorem hd_X33_init : yX33_init.cls = "CheckoutDesk$18" ∧ yX33_init.cls ≠ "java/lang/invoke/MethodHandle" ∧ yX33_init.cls ≠ "java/lang/invoke/VarHandle" ∧ (parseMethodDescriptor yX33_init.desc).map (fun d => d.parameters.length) = some 1 := ⟨rfl, hn_X33_init⟩
abbrev rm_X33_init : Room := { frames := 1, cells := 0, slots := 0, locals := 16 }
set_option maxHeartbeats 1000000 in
theorem cc_X33_init (l : Launch) {G : zG} {H0 : Heap} {h0 : Nat} {y0 : Nat} (ho : zO G H0 h0 32 [.null]) : zM l yX33_init (ws_ yX33_init cX33_init 2 none) rm_X33_init G (zO1 h0 H0) [.ref h0, .ref y0] H0 (fun r H1 => r = none ∧ zO G H1 h0 32 [.ref y0] ∧ H1.size = H0.size ∧ ∀ q : Nat, q ≠ h0 → H1[q]? = H0[q]?) (fun _ => False) := by
  refine z_enter (by decide +kernel) (Nat.le_of_ble_eq_true rfl) ?_
  intro p e s m args below meth c ls hx hb hret hml hown hts hlocks htab hnm hK hH hl
  subst hH
  have hAn : ∀ q, s.heap.size ≤ q → (zO1 h0 s.heap) q := fun _ h => Or.inr h
  have hS : va_S (zO1 h0 s.heap) s.heap s.heap [] := va_S.rf
  have hS0 := hS
  have hsz_0 : s.heap.size ≤ s.heap.size := Nat.le_refl _
  have hl : lv_has ls 2 [(0, .ref h0), (1, .ref y0)] := hl
  have hA0 : zO1 h0 s.heap h0 := Or.inl rfl
  refine lv_aload_n hx hb dX33_init_0 rfl (lv_at hl 0 rfl) ?_
  refine lv_aload_n hx hb dX33_init_1 rfl (lv_at hl 1 rfl) ?_
  refine z_putF (v := .ref y0) hx hb hts in_X33 tyX33 tyX33_ok nmX33 hown hK ho hA0 hS rfl 0 (by decide) q246 rfl (hnm.trans rfl) rfl rfl rfl (Nat.le_of_ble_eq_true rfl) dX33_init_2 (fun H_1 locs ho_2 hz_3 hk_4 hS1 => ?_)
  have hS := hS1
  have hsz_5 : s.heap.size ≤ H_1.size := hS.1
  have hS0 := hS
  refine lv_aload_n hx hb dX33_init_5 rfl (lv_at hl 0 rfl) ?_
  refine W.objInit hx hb hown (hts _ q245) (hts _ q116) (hts _ q117) rfl (by rw [hml]; exact hl.1) rfl dX33_init_6 (Nat.le_of_ble_eq_true rfl) (Nat.le_of_ble_eq_true rfl) ?_
  refine W.eq (g2 := F0 m 9 ls []) rfl ?_
  exact z_vret hx hb hret hlocks hS ⟨rfl, ho_2, hz_3, hk_4⟩ (Nat.le_of_ble_eq_true rfl) (Nat.le_of_ble_eq_true rfl) dX33_init_9
theorem hn_X34_init : yX34_init.cls ≠ "java/lang/invoke/MethodHandle" ∧ yX34_init.cls ≠ "java/lang/invoke/VarHandle" ∧ (parseMethodDescriptor yX34_init.desc).map (fun d => d.parameters.length) = some 1 := by decide +kernel
theorem hd_X34_init : yX34_init.cls = "CheckoutDesk$19" ∧ yX34_init.cls ≠ "java/lang/invoke/MethodHandle" ∧ yX34_init.cls ≠ "java/lang/invoke/VarHandle" ∧ (parseMethodDescriptor yX34_init.desc).map (fun d => d.parameters.length) = some 1 := ⟨rfl, hn_X34_init⟩
abbrev rm_X34_init : Room := { frames := 1, cells := 0, slots := 0, locals := 16 }
set_option maxHeartbeats 1000000 in
theorem cc_X34_init (l : Launch) {G : zG} {H0 : Heap} {h0 : Nat} {y0 : Nat} (ho : zO G H0 h0 33 [.null]) : zM l yX34_init (ws_ yX34_init cX34_init 2 none) rm_X34_init G (zO1 h0 H0) [.ref h0, .ref y0] H0 (fun r H1 => r = none ∧ zO G H1 h0 33 [.ref y0] ∧ H1.size = H0.size ∧ ∀ q : Nat, q ≠ h0 → H1[q]? = H0[q]?) (fun _ => False) := by
  refine z_enter (by decide +kernel) (Nat.le_of_ble_eq_true rfl) ?_
  intro p e s m args below meth c ls hx hb hret hml hown hts hlocks htab hnm hK hH hl
  subst hH
  have hAn : ∀ q, s.heap.size ≤ q → (zO1 h0 s.heap) q := fun _ h => Or.inr h
  have hS : va_S (zO1 h0 s.heap) s.heap s.heap [] := va_S.rf
  have hS0 := hS
  have hsz_0 : s.heap.size ≤ s.heap.size := Nat.le_refl _
  have hl : lv_has ls 2 [(0, .ref h0), (1, .ref y0)] := hl
  have hA0 : zO1 h0 s.heap h0 := Or.inl rfl
  refine lv_aload_n hx hb dX34_init_0 rfl (lv_at hl 0 rfl) ?_
  refine lv_aload_n hx hb dX34_init_1 rfl (lv_at hl 1 rfl) ?_
  refine z_putF (v := .ref y0) hx hb hts in_X34 tyX34 tyX34_ok nmX34 hown hK ho hA0 hS rfl 0 (by decide) q744 rfl (hnm.trans rfl) rfl rfl rfl (Nat.le_of_ble_eq_true rfl) dX34_init_2 (fun H_1 locs ho_2 hz_3 hk_4 hS1 => ?_)
  have hS := hS1
  have hsz_5 : s.heap.size ≤ H_1.size := hS.1
  have hS0 := hS
  refine lv_aload_n hx hb dX34_init_5 rfl (lv_at hl 0 rfl) ?_
  refine W.objInit hx hb hown (hts _ q743) (hts _ q116) (hts _ q117) rfl (by rw [hml]; exact hl.1) rfl dX34_init_6 (Nat.le_of_ble_eq_true rfl) (Nat.le_of_ble_eq_true rfl) ?_
  refine W.eq (g2 := F0 m 9 ls []) rfl ?_
  exact z_vret hx hb hret hlocks hS ⟨rfl, ho_2, hz_3, hk_4⟩ (Nat.le_of_ble_eq_true rfl) (Nat.le_of_ble_eq_true rfl) dX34_init_9
theorem hn_X35_init : yX35_init.cls ≠ "java/lang/invoke/MethodHandle" ∧ yX35_init.cls ≠ "java/lang/invoke/VarHandle" ∧ (parseMethodDescriptor yX35_init.desc).map (fun d => d.parameters.length) = some 1 := by decide +kernel
theorem hd_X35_init : yX35_init.cls = "CheckoutDesk$20" ∧ yX35_init.cls ≠ "java/lang/invoke/MethodHandle" ∧ yX35_init.cls ≠ "java/lang/invoke/VarHandle" ∧ (parseMethodDescriptor yX35_init.desc).map (fun d => d.parameters.length) = some 1 := ⟨rfl, hn_X35_init⟩
abbrev rm_X35_init : Room := { frames := 1, cells := 0, slots := 0, locals := 16 }
set_option maxHeartbeats 1000000 in
theorem cc_X35_init (l : Launch) {G : zG} {H0 : Heap} {h0 : Nat} {y0 : Nat} (ho : zO G H0 h0 34 [.null]) : zM l yX35_init (ws_ yX35_init cX35_init 2 none) rm_X35_init G (zO1 h0 H0) [.ref h0, .ref y0] H0 (fun r H1 => r = none ∧ zO G H1 h0 34 [.ref y0] ∧ H1.size = H0.size ∧ ∀ q : Nat, q ≠ h0 → H1[q]? = H0[q]?) (fun _ => False) := by
  refine z_enter (by decide +kernel) (Nat.le_of_ble_eq_true rfl) ?_
  intro p e s m args below meth c ls hx hb hret hml hown hts hlocks htab hnm hK hH hl
  subst hH
  have hAn : ∀ q, s.heap.size ≤ q → (zO1 h0 s.heap) q := fun _ h => Or.inr h
  have hS : va_S (zO1 h0 s.heap) s.heap s.heap [] := va_S.rf
  have hS0 := hS
  have hsz_0 : s.heap.size ≤ s.heap.size := Nat.le_refl _
  have hl : lv_has ls 2 [(0, .ref h0), (1, .ref y0)] := hl
  have hA0 : zO1 h0 s.heap h0 := Or.inl rfl
  refine lv_aload_n hx hb dX35_init_0 rfl (lv_at hl 0 rfl) ?_
  refine lv_aload_n hx hb dX35_init_1 rfl (lv_at hl 1 rfl) ?_
  refine z_putF (v := .ref y0) hx hb hts in_X35 tyX35 tyX35_ok nmX35 hown hK ho hA0 hS rfl 0 (by decide) q758 rfl (hnm.trans rfl) rfl rfl rfl (Nat.le_of_ble_eq_true rfl) dX35_init_2 (fun H_1 locs ho_2 hz_3 hk_4 hS1 => ?_)
  have hS := hS1
  have hsz_5 : s.heap.size ≤ H_1.size := hS.1
  have hS0 := hS
  refine lv_aload_n hx hb dX35_init_5 rfl (lv_at hl 0 rfl) ?_
  refine W.objInit hx hb hown (hts _ q757) (hts _ q116) (hts _ q117) rfl (by rw [hml]; exact hl.1) rfl dX35_init_6 (Nat.le_of_ble_eq_true rfl) (Nat.le_of_ble_eq_true rfl) ?_
  refine W.eq (g2 := F0 m 9 ls []) rfl ?_
  exact z_vret hx hb hret hlocks hS ⟨rfl, ho_2, hz_3, hk_4⟩ (Nat.le_of_ble_eq_true rfl) (Nat.le_of_ble_eq_true rfl) dX35_init_9
theorem hn_X10_init : yX10_init.cls ≠ "java/lang/invoke/MethodHandle" ∧ yX10_init.cls ≠ "java/lang/invoke/VarHandle" ∧ (parseMethodDescriptor yX10_init.desc).map (fun d => d.parameters.length) = some 1 := by decide +kernel
theorem hd_X10_init : yX10_init.cls = "CheckoutDesk$Branch" ∧ yX10_init.cls ≠ "java/lang/invoke/MethodHandle" ∧ yX10_init.cls ≠ "java/lang/invoke/VarHandle" ∧ (parseMethodDescriptor yX10_init.desc).map (fun d => d.parameters.length) = some 1 := ⟨rfl, hn_X10_init⟩
abbrev rm_X10_init : Room := { frames := 1, cells := 0, slots := 0, locals := 16 }
set_option maxHeartbeats 1000000 in
theorem cc_X10_init (l : Launch) {G : zG} {H0 : Heap} {h0 : Nat} {y0 : Option Nat} (ho : zO G H0 h0 9 [.null, .null]) : zM l yX10_init (ws_ yX10_init cX10_init 2 none) rm_X10_init G (zO1 h0 H0) [.ref h0, va_rf y0] H0 (fun r H1 => r = none ∧ zO G H1 h0 9 [va_rf y0, .null] ∧ H1.size = H0.size ∧ ∀ q : Nat, q ≠ h0 → H1[q]? = H0[q]?) (fun _ => False) := by
  refine z_enter (by decide +kernel) (by simp [lg_sl, z_cat1, z_catr, z_cati]) ?_
  intro p e s m args below meth c ls hx hb hret hml hown hts hlocks htab hnm hK hH hl
  subst hH
  have hAn : ∀ q, s.heap.size ≤ q → (zO1 h0 s.heap) q := fun _ h => Or.inr h
  have hS : va_S (zO1 h0 s.heap) s.heap s.heap [] := va_S.rf
  have hS0 := hS
  have hsz_0 : s.heap.size ≤ s.heap.size := Nat.le_refl _
  have hl : lv_has ls 2 [(0, .ref h0), (1, va_rf y0)] := (by simpa [lv_args, z_cat1, z_catr, z_cati] using hl)
  have hA0 : zO1 h0 s.heap h0 := Or.inl rfl
  refine lv_aload_n hx hb dX10_init_0 rfl (lv_at hl 0 rfl) ?_
  refine W.objInit hx hb hown (hts _ q1043) (hts _ q116) (hts _ q117) rfl (by rw [hml]; exact hl.1) rfl dX10_init_1 (Nat.le_of_ble_eq_true rfl) (Nat.le_of_ble_eq_true rfl) ?_
  refine W.eq (g2 := F0 m 4 ls []) rfl ?_
  refine lv_aload_n hx hb dX10_init_4 rfl (lv_at hl 0 rfl) ?_
  refine z_aloadq_n hx hb dX10_init_5 rfl (lv_at hl 1 rfl) ?_
  refine z_put (v := va_rf y0) hx hb hts in_X10 tyX10 tyX10_ok nmX10 hown hK ho hA0 hS rfl 0 (by decide) q1044 rfl rfl (z_narq _ _) (z_fitq _ _) (Nat.le_of_ble_eq_true rfl) dX10_init_6 (fun H_1 locs ho_2 hz_3 hk_4 hS1 => ?_)
  have hS := hS1
  have hsz_5 : s.heap.size ≤ H_1.size := hS.1
  have hS0 := hS
  exact z_vret hx hb hret hlocks hS ⟨rfl, ho_2, hz_3, hk_4⟩ (Nat.le_of_ble_eq_true rfl) (Nat.le_of_ble_eq_true rfl) dX10_init_9
theorem hn_X13_init : yX13_init.cls ≠ "java/lang/invoke/MethodHandle" ∧ yX13_init.cls ≠ "java/lang/invoke/VarHandle" ∧ (parseMethodDescriptor yX13_init.desc).map (fun d => d.parameters.length) = some 4 := by decide +kernel
theorem hd_X13_init : yX13_init.cls = "CheckoutDesk$Link" ∧ yX13_init.cls ≠ "java/lang/invoke/MethodHandle" ∧ yX13_init.cls ≠ "java/lang/invoke/VarHandle" ∧ (parseMethodDescriptor yX13_init.desc).map (fun d => d.parameters.length) = some 4 := ⟨rfl, hn_X13_init⟩
abbrev rm_X13_init : Room := { frames := 1, cells := 0, slots := 0, locals := 16 }
set_option maxHeartbeats 1000000 in
theorem cc_X13_init (l : Launch) {G : zG} {H0 : Heap} {h0 : Nat} {y0 y1 y2 : Int} {y3 : Option Nat} (ho : zO G H0 h0 12 [.int (iI 0), .int (iI 0), .int (iI 0), .null]) : zM l yX13_init (ws_ yX13_init cX13_init 5 none) rm_X13_init G (zO1 h0 H0) [.ref h0, .int (iI y0), .int (iI y1), .int (iI y2), va_rf y3] H0 (fun r H1 => r = none ∧ zO G H1 h0 12 [.int (iI y0), .int (iI y1), .int (iI y2), va_rf y3] ∧ H1.size = H0.size ∧ ∀ q : Nat, q ≠ h0 → H1[q]? = H0[q]?) (fun _ => False) := by
  refine z_enter (by decide +kernel) (by simp [lg_sl, z_cat1, z_catr, z_cati]) ?_
  intro p e s m args below meth c ls hx hb hret hml hown hts hlocks htab hnm hK hH hl
  subst hH
  have hAn : ∀ q, s.heap.size ≤ q → (zO1 h0 s.heap) q := fun _ h => Or.inr h
  have hS : va_S (zO1 h0 s.heap) s.heap s.heap [] := va_S.rf
  have hS0 := hS
  have hsz_0 : s.heap.size ≤ s.heap.size := Nat.le_refl _
  have hl : lv_has ls 5 [(0, .ref h0), (1, .int (iI y0)), (2, .int (iI y1)), (3, .int (iI y2)), (4, va_rf y3)] := (by simpa [lv_args, z_cat1, z_catr, z_cati] using hl)
  have hA0 : zO1 h0 s.heap h0 := Or.inl rfl
  refine lv_aload_n hx hb dX13_init_0 rfl (lv_at hl 0 rfl) ?_
  refine W.objInit hx hb hown (hts _ q1261) (hts _ q116) (hts _ q117) rfl (by rw [hml]; exact hl.1) rfl dX13_init_1 (Nat.le_of_ble_eq_true rfl) (Nat.le_of_ble_eq_true rfl) ?_
  refine W.eq (g2 := F0 m 4 ls []) rfl ?_
  refine lv_aload_n hx hb dX13_init_4 rfl (lv_at hl 0 rfl) ?_
  refine lv_iload_n hx hb dX13_init_5 rfl (lv_at hl 1 rfl) ?_
  refine z_putF (v := .int (iI y0)) hx hb hts in_X13 tyX13 tyX13_ok nmX13 hown hK ho hA0 hS rfl 0 (by decide) q1262 rfl (hnm.trans rfl) rfl rfl rfl (Nat.le_of_ble_eq_true rfl) dX13_init_6 (fun H_1 locs ho_2 hz_3 hk_4 hS1 => ?_)
  have hS := hS1
  have hsz_5 : s.heap.size ≤ H_1.size := hS.1
  have hS0 := hS
  refine lv_aload_n hx hb dX13_init_9 rfl (lv_at hl 0 rfl) ?_
  refine lv_iload_n hx hb dX13_init_10 rfl (lv_at hl 2 rfl) ?_
  refine z_putF (v := .int (iI y1)) hx hb hts in_X13 tyX13 tyX13_ok nmX13 hown hK ho_2 hA0 hS rfl 1 (by decide) q1264 rfl (hnm.trans rfl) rfl rfl rfl (Nat.le_of_ble_eq_true rfl) dX13_init_11 (fun H_6 locs ho_7 hz_8 hk_9 hS1 => ?_)
  have hS := hS1
  have hsz_10 : s.heap.size ≤ H_6.size := hS.1
  have sz_11 := hz_8.trans hz_3
  have fr_12 := fun (q : Nat) (hq : q ≠ h0) => (hk_9 q hq).trans (hk_4 q hq)
  have hS0 := hS
  refine lv_aload_n hx hb dX13_init_14 rfl (lv_at hl 0 rfl) ?_
  refine lv_iload_n hx hb dX13_init_15 rfl (lv_at hl 3 rfl) ?_
  refine z_putF (v := .int (iI y2)) hx hb hts in_X13 tyX13 tyX13_ok nmX13 hown hK ho_7 hA0 hS rfl 2 (by decide) q1266 rfl (hnm.trans rfl) rfl rfl rfl (Nat.le_of_ble_eq_true rfl) dX13_init_16 (fun H_13 locs ho_14 hz_15 hk_16 hS1 => ?_)
  have hS := hS1
  have hsz_17 : s.heap.size ≤ H_13.size := hS.1
  have sz_18 := hz_15.trans sz_11
  have fr_19 := fun (q : Nat) (hq : q ≠ h0) => (hk_16 q hq).trans (fr_12 q hq)
  have hS0 := hS
  refine lv_aload_n hx hb dX13_init_19 rfl (lv_at hl 0 rfl) ?_
  refine z_aloadq hx hb dX13_init_20 (lv_at hl 4 rfl) ?_
  refine z_putF (v := va_rf y3) hx hb hts in_X13 tyX13 tyX13_ok nmX13 hown hK ho_14 hA0 hS rfl 3 (by decide) q1269 rfl (hnm.trans rfl) rfl (z_narq _ _) (z_fitq _ _) (Nat.le_of_ble_eq_true rfl) dX13_init_22 (fun H_20 locs ho_21 hz_22 hk_23 hS1 => ?_)
  have hS := hS1
  have hsz_24 : s.heap.size ≤ H_20.size := hS.1
  have sz_25 := hz_22.trans sz_18
  have fr_26 := fun (q : Nat) (hq : q ≠ h0) => (hk_23 q hq).trans (fr_19 q hq)
  have hS0 := hS
  exact z_vret hx hb hret hlocks hS ⟨rfl, ho_21, sz_25, fr_26⟩ (Nat.le_of_ble_eq_true rfl) (Nat.le_of_ble_eq_true rfl) dX13_init_25
theorem hn_X16_init : yX16_init.cls ≠ "java/lang/invoke/MethodHandle" ∧ yX16_init.cls ≠ "java/lang/invoke/VarHandle" ∧ (parseMethodDescriptor yX16_init.desc).map (fun d => d.parameters.length) = some 2 := by decide +kernel
theorem hd_X16_init : yX16_init.cls = "CheckoutDesk$Event" ∧ yX16_init.cls ≠ "java/lang/invoke/MethodHandle" ∧ yX16_init.cls ≠ "java/lang/invoke/VarHandle" ∧ (parseMethodDescriptor yX16_init.desc).map (fun d => d.parameters.length) = some 2 := ⟨rfl, hn_X16_init⟩
abbrev rm_X16_init : Room := { frames := 1, cells := 0, slots := 0, locals := 16 }
set_option maxHeartbeats 1000000 in
theorem cc_X16_init (l : Launch) {G : zG} {H0 : Heap} {h0 : Nat} {y1 : Int} {y0 : Nat} (ho : zO G H0 h0 15 [.null, .int (iI 0)]) : zM l yX16_init (ws_ yX16_init cX16_init 3 none) rm_X16_init G (zO1 h0 H0) [.ref h0, .ref y0, .int (iI y1)] H0 (fun r H1 => r = none ∧ zO G H1 h0 15 [.ref y0, .int (iI y1)] ∧ H1.size = H0.size ∧ ∀ q : Nat, q ≠ h0 → H1[q]? = H0[q]?) (fun _ => False) := by
  refine z_enter (by decide +kernel) (Nat.le_of_ble_eq_true rfl) ?_
  intro p e s m args below meth c ls hx hb hret hml hown hts hlocks htab hnm hK hH hl
  subst hH
  have hAn : ∀ q, s.heap.size ≤ q → (zO1 h0 s.heap) q := fun _ h => Or.inr h
  have hS : va_S (zO1 h0 s.heap) s.heap s.heap [] := va_S.rf
  have hS0 := hS
  have hsz_0 : s.heap.size ≤ s.heap.size := Nat.le_refl _
  have hl : lv_has ls 3 [(0, .ref h0), (1, .ref y0), (2, .int (iI y1))] := hl
  have hA0 : zO1 h0 s.heap h0 := Or.inl rfl
  refine lv_aload_n hx hb dX16_init_0 rfl (lv_at hl 0 rfl) ?_
  refine W.objInit hx hb hown (hts _ q1772) (hts _ q116) (hts _ q117) rfl (by rw [hml]; exact hl.1) rfl dX16_init_1 (Nat.le_of_ble_eq_true rfl) (Nat.le_of_ble_eq_true rfl) ?_
  refine W.eq (g2 := F0 m 4 ls []) rfl ?_
  refine lv_aload_n hx hb dX16_init_4 rfl (lv_at hl 0 rfl) ?_
  refine lv_aload_n hx hb dX16_init_5 rfl (lv_at hl 1 rfl) ?_
  refine z_putF (v := .ref y0) hx hb hts in_X16 tyX16 tyX16_ok nmX16 hown hK ho hA0 hS rfl 0 (by decide) q1773 rfl (hnm.trans rfl) rfl rfl rfl (Nat.le_of_ble_eq_true rfl) dX16_init_6 (fun H_1 locs ho_2 hz_3 hk_4 hS1 => ?_)
  have hS := hS1
  have hsz_5 : s.heap.size ≤ H_1.size := hS.1
  have hS0 := hS
  refine lv_aload_n hx hb dX16_init_9 rfl (lv_at hl 0 rfl) ?_
  refine lv_iload_n hx hb dX16_init_10 rfl (lv_at hl 2 rfl) ?_
  refine z_putF (v := .int (iI y1)) hx hb hts in_X16 tyX16 tyX16_ok nmX16 hown hK ho_2 hA0 hS rfl 1 (by decide) q1775 rfl (hnm.trans rfl) rfl rfl rfl (Nat.le_of_ble_eq_true rfl) dX16_init_11 (fun H_6 locs ho_7 hz_8 hk_9 hS1 => ?_)
  have hS := hS1
  have hsz_10 : s.heap.size ≤ H_6.size := hS.1
  have sz_11 := hz_8.trans hz_3
  have fr_12 := fun (q : Nat) (hq : q ≠ h0) => (hk_9 q hq).trans (hk_4 q hq)
  have hS0 := hS
  exact z_vret hx hb hret hlocks hS ⟨rfl, ho_7, sz_11, fr_12⟩ (Nat.le_of_ble_eq_true rfl) (Nat.le_of_ble_eq_true rfl) dX16_init_14

set_option maxRecDepth 100000
theorem zR.newCopy {G : zG} {w w' : Int → Int} {ad : zKey → Nat} {mc : Int → Int} {cp : Int → Nat} {cl : Bool} {F : Nat → Prop} {H H1 : Heap} (h : zR G w ad mc cp cl F H) {d b : Int} {y yv : Nat} (hLk : tLk w) (hd : (0 ≤ d ∧ d < w 2) ∧ 0 ≤ b ∧ b < w (5 + 32 * d + 1)) (hw : ∀ c : Int, ¬ (5 + 32 * d + 8 + 8 * b + 1 ≤ c ∧ c < 5 + 32 * d + 8 + 8 * b + 8) → w' c = w c) (hin : ∀ k, inR (w' k)) (hp : w' (5 + 32 * d + 8 + 8 * b + 1) ≠ 0)
    (hb : zO G H1 (ad (kbr d b)) 9 [va_rf (zOg w ad d b), .ref y]) (hy : zO G H1 y 14 [.ref yv, .ref (ad (kver (w' (5 + 32 * d + 8 + 8 * b + 3)))), .int (iI (w' (5 + 32 * d + 8 + 8 * b + 1) - 1)), .int (iI (w' (5 + 32 * d + 8 + 8 * b + 2)))]) (hyv : zAI G H1 yv 4 (zF (fun j => w' (5 + 32 * d + 8 + 8 * b + 4 + j))))
    (hq : ∀ k, zlive w cp k → k ≠ kbr d b → H1[ad k]? = H[ad k]?) (hny : ∀ k, zlive w cp k → ad k ≠ y ∧ ad k ≠ yv) (hyy : y ≠ yv) (hFy : F y ∧ F yv) : zR G w' (zpt (zpt ad (kcy d b) y) (kcv d b) yv) mc cp cl F H1 := by
  obtain ⟨hD, hV, hL_, hB, -⟩ := h.n
  have hbd := hB d hd.1.1 hd.1.2
  have e2 : w' 2 = w 2 := hw 2 (by omega)
  have e3 : w' 3 = w 3 := hw 3 (by omega)
  have e4 : w' 4 = w 4 := hw 4 (by omega)
  have eb : ∀ d8 : Int, 0 ≤ d8 → d8 < w 2 → w' (5 + 32 * d8 + 1) = w (5 + 32 * d8 + 1) := fun d8 h8 h9 => hw _ (by omega)
  have hln := zLn_same e2 e3 e4 eb
  have hyd : zpt (zpt ad (kcy d b) y) (kcv d b) yv = zpt (zpt ad (kcy d b) y) (kcv d b) yv := rfl
  have hlv : ∀ k, zlive w' cp k → k ≠ kcy d b → k ≠ kcv d b → zlive w cp k := fun k hk x1 x2 => by
    match k, hk, x1, x2 with
    | (0, i8, j8), hk, x1, x2 =>
      simp only [zlive] at hk ⊢
      exact hk
    | (1, i8, j8), hk, x1, x2 =>
      simp only [zlive] at hk ⊢
      omega
    | (2, i8, j8), hk, x1, x2 =>
      simp only [zlive] at hk ⊢
      omega
    | (3, i8, j8), hk, x1, x2 =>
      simp only [zlive] at hk ⊢
      omega
    | (4, i8, j8), hk, x1, x2 =>
      simp only [zlive] at hk ⊢
      omega
    | (5, i8, j8), hk, x1, x2 =>
      simp only [zlive] at hk ⊢
      omega
    | (6, d8, b8), hk, x1, x2 =>
      simp only [zlive] at hk ⊢
      have y8 := eb d8 (by omega) (by omega)
      omega
    | (7, d8, b8), hk, x1, x2 =>
      simp only [zlive] at hk ⊢
      have y8 := eb d8 (by omega) (by omega)
      have z8 := hB d8 (by omega) (by omega)
      have k2 := knn2 x1
      exact ⟨by omega, by rw [← hw _ (by omega)]; exact hk.2⟩
    | (8, d8, b8), hk, x1, x2 =>
      simp only [zlive] at hk ⊢
      have y8 := eb d8 (by omega) (by omega)
      have z8 := hB d8 (by omega) (by omega)
      have k2 := knn2 x2
      exact ⟨by omega, by rw [← hw _ (by omega)]; exact hk.2⟩
    | (9, i8, j8), hk, x1, x2 =>
      simp only [zlive] at hk ⊢
      omega
    | (10, i8, j8), hk, x1, x2 =>
      simp only [zlive] at hk ⊢
      omega
    | (11, i8, j8), hk, x1, x2 =>
      simp only [zlive] at hk ⊢
      omega
  refine h.step (fun k => k = kbr d b ∨ k = kcy d b ∨ k = kcv d b) (fun q => q = y ∨ q = yv) (fun k hk q => q.elim (hny k hk).1 (hny k hk).2) ?_ ?_ ?_ ?_ (fun l x1 x2 => ?_) ⟨by unfold tD; omega, by unfold tV; omega, by unfold tL; omega, fun d8 x1 x2 => by rw [eb d8 x1 (by omega)]; exact hB d8 x1 (by omega), hin⟩
  · intro k hk x
    rcases x with rfl | rfl | rfl
    · rw [show (zpt (zpt ad (kcy d b) y) (kcv d b) yv) (kbr d b) = ad (kbr d b) from ((zpt_n (kne (by omega))).trans (zpt_n (kne (by omega))))]
      show zO G H1 (ad (kbr d b)) 9 [va_rf (zOg w' (zpt (zpt ad (kcy d b) y) (kcv d b) yv) d b), va_rf (zCy w' (zpt (zpt ad (kcy d b) y) (kcv d b) yv) d b)]
      rw [show zOg w' (zpt (zpt ad (kcy d b) y) (kcv d b) yv) d b = zOg w ad d b by unfold zOg; rw [hw _ (by omega), show (zpt (zpt ad (kcy d b) y) (kcv d b) yv) (kver (w (5 + 32 * d + 8 + 8 * b))) = ad (kver (w (5 + 32 * d + 8 + 8 * b))) from ((zpt_n (kne (by omega))).trans (zpt_n (kne (by omega))))], show zCy w' (zpt (zpt ad (kcy d b) y) (kcv d b) yv) d b = some y from (if_neg hp).trans (congrArg some ((zpt_n (kne (by omega))).trans zpt_s))]
      exact hb
    · rw [show (zpt (zpt ad (kcy d b) y) (kcv d b) yv) (kcy d b) = y from (zpt_n (kne (by omega))).trans zpt_s]
      show zO G H1 y 14 [.ref ((zpt (zpt ad (kcy d b) y) (kcv d b) yv) (kcv d b)), .ref ((zpt (zpt ad (kcy d b) y) (kcv d b) yv) (kver (w' (5 + 32 * d + 8 + 8 * b + 3)))), .int (iI (w' (5 + 32 * d + 8 + 8 * b + 1) - 1)), .int (iI (w' (5 + 32 * d + 8 + 8 * b + 2)))]
      rw [zpt_s, show (zpt (zpt ad (kcy d b) y) (kcv d b) yv) (kver (w' (5 + 32 * d + 8 + 8 * b + 3))) = ad (kver (w' (5 + 32 * d + 8 + 8 * b + 3))) from ((zpt_n (kne (by omega))).trans (zpt_n (kne (by omega))))]
      exact hy
    · rw [zpt_s]
      exact hyv
  · intro k hk x
    have x1 : k ≠ kbr d b := fun q => x (Or.inl q)
    have x2 : k ≠ kcy d b := fun q => x (Or.inr (Or.inl q))
    have x3 : k ≠ kcv d b := fun q => x (Or.inr (Or.inr q))
    have hk0 := hlv k hk x2 x3
    refine ⟨hk0, (zpt_n x3).trans (zpt_n x2), ?_, hq k hk0 x1⟩
    match k, hk0, x1, x2, x3 with
    | (0, i8, j8), hk, x1, x2, x3 =>
      exact ⟨hw _ (by omega), hw _ (by omega), ((zpt_n (kne (by omega))).trans (zpt_n (kne (by omega)))), ((zpt_n (kne (by omega))).trans (zpt_n (kne (by omega)))), ((zpt_n (kne (by omega))).trans (zpt_n (kne (by omega))))⟩
    | (1, l8, j8), hk, x1, x2, x3 =>
      exact ((zpt_n (kne (by omega))).trans (zpt_n (kne (by omega))))
    | (2, l8, j8), hk, x1, x2, x3 =>
      simp only [zlive] at hk
      exact ⟨hln _ (by omega) (by omega), rfl, ((zpt_n (kne (by omega))).trans (zpt_n (kne (by omega))))⟩
    | (3, l8, j8), hk, x1, x2, x3 =>
      simp only [zlive] at hk
      exact ⟨hln _ (by omega) (by omega), rfl, fun i8 _ => ((zpt_n (zLk_neA (by decide))).trans (zpt_n (zLk_neA (by decide))))⟩
    | (4, d8, j8), hk, x1, x2, x3 =>
      simp only [zlive] at hk
      exact ⟨hw _ (by omega), ((zpt_n (kne (by omega))).trans (zpt_n (kne (by omega)))), ((zpt_n (kne (by omega))).trans (zpt_n (kne (by omega))))⟩
    | (5, d8, j8), hk, x1, x2, x3 =>
      simp only [zlive] at hk
      exact ⟨hw _ (by omega), fun p8 z1 z2 => hw _ (by omega)⟩
    | (6, d8, b8), hk, x1, x2, x3 =>
      simp only [zlive] at hk
      have z8 := hB d8 (by omega) (by omega)
      have k2 := knn2 x1
      refine ⟨?_, ?_⟩
      · unfold zOg
        rw [hw _ (by omega), show (zpt (zpt ad (kcy d b) y) (kcv d b) yv) (kver (w (5 + 32 * d8 + 8 + 8 * b8))) = ad (kver (w (5 + 32 * d8 + 8 + 8 * b8))) from ((zpt_n (kne (by omega))).trans (zpt_n (kne (by omega))))]
      · unfold zCy
        rw [hw _ (by omega), show (zpt (zpt ad (kcy d b) y) (kcv d b) yv) (kcy d8 b8) = ad (kcy d8 b8) from ((zpt_n (kne (by omega))).trans (zpt_n (kne (by omega))))]
    | (7, d8, b8), hk, x1, x2, x3 =>
      simp only [zlive] at hk
      have z8 := hB d8 (by omega) (by omega)
      have k2 := knn2 x2
      exact ⟨hw _ (by omega), hw _ (by omega), hw _ (by omega), ((zpt_n (kne (by omega))).trans (zpt_n (kne (by omega)))), ((zpt_n (kne (by omega))).trans (zpt_n (kne (by omega))))⟩
    | (8, d8, b8), hk, x1, x2, x3 =>
      simp only [zlive] at hk
      have z8 := hB d8 (by omega) (by omega)
      have k2 := knn2 x3
      exact fun j8 z1 z2 => hw _ (by omega)
    | (9, v8, j8), hk, x1, x2, x3 =>
      simp only [zlive] at hk
      exact ⟨hw _ (by omega), hw _ (by omega), hw _ (by omega), hw _ (by omega), hw _ (by omega), ((zpt_n (kne (by omega))).trans (zpt_n (kne (by omega))))⟩
    | (10, v8, j8), hk, x1, x2, x3 =>
      simp only [zlive] at hk
      exact fun j8 z1 z2 => hw _ (by omega)
    | (11, k8, j8), hk, x1, x2, x3 =>
      simp only [zlive] at hk
      have a1 : w' (801 + 3 * k8 + 1) = w (801 + 3 * k8 + 1) := hw _ (by omega)
      have a2 : w' (801 + 3 * k8 + 2) = w (801 + 3 * k8 + 2) := hw _ (by omega)
      refine ⟨hw _ (by omega), a1, ?_, by unfold zLv; rw [a1, a2, show (zpt (zpt ad (kcy d b) y) (kcv d b) yv) (kver (w (801 + 3 * k8 + 2))) = ad (kver (w (801 + 3 * k8 + 2))) from ((zpt_n (kne (by omega))).trans (zpt_n (kne (by omega))))]⟩
      unfold zLt
      rw [a1, a2]
      split
      · have z8 := hLk k8 (by omega) (by omega) (by assumption)
        exact hw _ (by omega)
      · rfl
    | (n8 + 12, i8, j8), hk, x1, x2, x3 =>
      exact trivial
  · intro k hk x
    rcases x with rfl | rfl | rfl
    · exact Or.inl ⟨hd, ((zpt_n (kne (by omega))).trans (zpt_n (kne (by omega))))⟩
    · exact Or.inr ⟨Or.inl ((zpt_n (kne (by omega))).trans zpt_s), by rw [show (zpt (zpt ad (kcy d b) y) (kcv d b) yv) (kcy d b) = y from (zpt_n (kne (by omega))).trans zpt_s]; exact hFy.1⟩
    · exact Or.inr ⟨Or.inr zpt_s, by rw [zpt_s]; exact hFy.2⟩
  · have key : ∀ k, zlive w' cp k → ((zpt (zpt ad (kcy d b) y) (kcv d b) yv) k = y ∨ (zpt (zpt ad (kcy d b) y) (kcv d b) yv) k = yv) → k = kcy d b ∨ k = kcv d b := fun k hk q => by
      by_cases x2 : k = kcy d b
      · exact Or.inl x2
      · by_cases x3 : k = kcv d b
        · exact Or.inr x3
        · have := hny k (hlv k hk x2 x3)
          rw [(zpt_n x3).trans (zpt_n x2)] at q
          exact (q.elim this.1 this.2).elim
    intro k k' hk hk' q e
    have k1 := key k hk q
    have k2 := key k' hk' (by rw [← e]; exact q)
    have a1 : (zpt (zpt ad (kcy d b) y) (kcv d b) yv) (kcy d b) = y := (zpt_n (kne (by omega))).trans zpt_s
    have a2 : (zpt (zpt ad (kcy d b) y) (kcv d b) yv) (kcv d b) = yv := zpt_s
    rcases k1 with rfl | rfl <;> rcases k2 with rfl | rfl
    · rfl
    · exact absurd (a1.symm.trans (e.trans a2)) hyy
    · exact absurd (a1.symm.trans (e.symm.trans a2)) hyy
    · rfl
  · rw [hln l x1 (by omega)]
    have c9 := h.cap l x1 (by omega)
    exact ⟨c9.1, fun q => by rw [← c9.2 q]; exact ((zpt_n (kne (by omega))).trans (zpt_n (kne (by omega))))⟩

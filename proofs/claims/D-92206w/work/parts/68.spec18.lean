set_option maxRecDepth 100000
/-! THE PLAIN LAW for the component: digits of four, read from either end -/
theorem p4_s {p : Int} (h : 0 ≤ p) : (2 : Int) ^ (2 * (p + 1)).toNat = 4 * 2 ^ (2 * p).toNat := by
  rw [show (2 * (p + 1)).toNat = 2 + (2 * p).toNat by omega, Int.pow_add]; rfl
theorem snd_s {v p : Int} (h : 0 ≤ p) : snd v (p + 1) = snd (v / 4) p := by
  unfold snd
  rw [p4_s h, Int.ediv_ediv_of_nonneg (show (0 : Int) ≤ 4 by omega)]
theorem snd_0 (v : Int) : snd v 0 = v % 4 := by
  unfold snd
  rw [show (2 : Int) ^ (2 * (0 : Int)).toNat = 1 from rfl, Int.ediv_one]
theorem snd_uq : ∀ (n : Nat) (v w : Int), (0 ≤ v ∧ v < 2 ^ (2 * (n : Int)).toNat) → (0 ≤ w ∧ w < 2 ^ (2 * (n : Int)).toNat) → (∀ j : Int, 0 ≤ j → j < n → snd v j = snd w j) → v = w
  | 0, v, w, hv, hw, _ => by
    have e : (2 : Int) ^ (2 * ((0 : Nat) : Int)).toNat = 1 := rfl
    rw [e] at hv hw
    omega
  | n + 1, v, w, hv, hw, h => by
    have e : (2 : Int) ^ (2 * ((n + 1 : Nat) : Int)).toNat = 4 * 2 ^ (2 * (n : Int)).toNat := p4_s (Int.natCast_nonneg n)
    rw [e] at hv hw
    have h0 := h 0 (Int.le_refl 0) (by omega)
    rw [snd_0, snd_0] at h0
    have hq := snd_uq n (v / 4) (w / 4) ⟨by omega, by omega⟩ ⟨by omega, by omega⟩ (fun j a b => by
      rw [← snd_s a, ← snd_s a]
      exact h (j + 1) (by omega) (by omega))
    omega
theorem DigS.uq {v w n : Int} {s : Int → Int} (hn : 0 ≤ n) (h : DigS v n s) (h' : DigS w n s) : v = w := by
  obtain ⟨k, rfl⟩ := Int.eq_ofNat_of_zero_le hn
  exact snd_uq k v w h.1 h'.1 (fun j a b => (h.2 j a b).trans (h'.2 j a b).symm)
theorem rowS_dig {f : Int → Int} {n : Int} (hn : 0 ≤ n) (hf : ∀ j : Int, 0 ≤ f j ∧ f j ≤ 3) : DigS (rowS f n) n (fun p => f (n - 1 - p)) := by
  refine int_ind (P := fun n => DigS (rowS f n) n (fun p => f (n - 1 - p))) hn ⟨⟨Int.le_refl _, by show (0 : Int) < 1; omega⟩, fun j a b => absurd a (by omega)⟩ (fun m h1 _ ih => ?_)
  have hm := hf m
  have i1 := ih.1
  rw [rowS_s h1]
  refine ⟨⟨by omega, by rw [p4_s h1]; omega⟩, fun j a b => ?_⟩
  by_cases q : j = 0
  · rw [q, snd_0]
    show (4 * rowS f m + f m) % 4 = f (m + 1 - 1 - 0)
    rw [show m + 1 - 1 - 0 = m by omega]
    omega
  · have z := ih.2 (j - 1) (by omega) (by omega)
    rw [show j = (j - 1) + 1 by omega, snd_s (by omega), show (4 * rowS f m + f m) / 4 = rowS f m by omega, z]
    show f (m - 1 - (j - 1)) = f (m + 1 - 1 - (j - 1 + 1))
    rw [show m - 1 - (j - 1) = m + 1 - 1 - (j - 1 + 1) by omega]

/-! READING: the start -/
section START31
variable {L : Nat} {xs : Nat → Int32} {K1 K2 m : Nat} {μ : Nat → Nat} {σ τ : tvS}
def cS0 (σ : tvS) : tvS := wr (wr (wr (wr (wr (wr (wr (wr σ 15 13 0) 15 19 0) 15 26 0) 15 29 0) 15 38 0) 62 3 0) 62 11 0) 62 7 0
def mS0 (τ : tvS) : tvS := wr (wr (wr (wr (wr (wr τ 123 17 0) 123 27 0) 123 36 0) 123 42 0) 123 46 0) 123 60 0
theorem start_c (d : Nat) : rn L xs (d + 2) 108 0 [.ref 62] [] σ = rn L xs (d + 2) 108 22 [.ref 62] [] (cS0 σ) := by
  rw [e108_0 (d + 1), bV_ok (e65_0 d σ)]; rfl
theorem start_m (d : Nat) (v v' : Value) : rn L xs (d + 1) 298 0 [.ref 123, v, v'] [] τ = rn L xs (d + 1) 298 30 [.ref 123, v, v'] [] (mS0 τ) := by
  rw [e298_0 d]; rfl
theorem BT.start (hLV : LV m σ τ) (hμ : mu τ = μ) (hr : roomC K1 K2 σ) (h5 : rd τ 123 5 = 0) : BT K1 K2 m μ 0 (fun _ => 0) (fun _ => 0) (fun _ => 0) (fun _ => 0) (fun _ => 0) 0 (cS0 σ) (mS0 τ) := by
  refine ⟨⟨⟨0, 0, 0, 0, fun _ => [], hLV, hμ, ⟨?_, ?_⟩, ⟨?_, ?_, Nat.le_refl _, Nat.le_refl _⟩, ?_, ⟨?_, Nat.le_refl _⟩, ?_, ⟨?_, ?_, by omega, ?_, ?_, ⟨by omega, fun f hf => absurd hf (Nat.not_lt_zero _)⟩, fun f hf => absurd hf (Nat.not_lt_zero _)⟩, fun v hv => absurd hv (Nat.not_lt_zero _), ⟨?_, ?_, ?_, by show (0 : Nat) ≤ 40; omega, fun k hk => absurd hk (Nat.not_lt_zero _), fun v hv => (by cases hv), fun u v hu => (by cases hu), ?_⟩, fun p hp => absurd hp (Nat.not_lt_zero _), hr,
    ⟨⟨?_, Nat.zero_le _, Nat.zero_le _, fun f hf => absurd hf (Nat.not_lt_zero _), fun f g q q' hf => absurd hf (Nat.not_lt_zero _)⟩, ?_, ?_, List.nodup_nil, fun e he => (by cases he), fun v hv => (by cases hv), fun f hf => absurd hf (Nat.not_lt_zero _), fun p hp => absurd hp (Nat.not_lt_zero _), fun f hf => absurd hf (Nat.not_lt_zero _)⟩⟩, ⟨?_, ?_, Nat.zero_le _, ?_, Nat.le_refl _, Nat.zero_le _⟩, ⟨?_, Nat.le_refl _, ?_, Nat.le_refl _⟩⟩, fun f hf => absurd hf (Nat.not_lt_zero _), rfl, rfl, rfl, rfl, fun f hf => absurd hf (Nat.not_lt_zero _)⟩
  all_goals first
    | (unfold cS0; simp only [rd_wr]; rfl)
    | (unfold mS0; simp only [rd_wr]; rfl)
    | (unfold sufF; trivial)
    | (unfold mS0; simp only [rd_wr]; exact h5)
    | skip
end START31

/-! REGIONS, THE MODEL: types are numbered -/
section NUMM
variable {L : Nat} {xs : Nat → Int32} {σ σ' τ τ' : tvS}
/-- numbers so far: the types that have one, in order; none of the others from B on has one -/
def NUM (B : Nat) (R : List Nat) (τ : tvS) : Prop := rd τ 123 87 = i32 (R.length : Int) ∧ R.length ≤ 10000 ∧ (∀ i x : Nat, R[i]? = some x → rd τ 185 i = i32 (x : Int) ∧ rd τ 184 x = i32 ((i + 1 : Nat) : Int) ∧ B ≤ x) ∧ (∀ t, B ≤ t → t ∉ R → rd τ 184 t = 0) ∧ R.Nodup
def numA (R : List Nat) (x : Nat) : List Nat := if x ∈ R then R else R ++ [x]
theorem num_m {N B x : Nat} {G : tG} {r : Nat → Nat} {R : List Nat} (hT : TM N G r τ) (hN : N ≤ 100000) (hx : x < N) (hB : B ≤ r x) (hR : NUM B R τ) (hl : R.length < 10000) (d : Nat) (v2 : Value) :
    ∃ τ', rn L xs (d + 2) 351 0 [.ref 123, .int (i32 (x : Int)), v2] [] τ = some (.inl none, τ') ∧ TM N G r τ' ∧ NUM B (numA R (r x)) τ' ∧ frM [169, 184, 185] [87] τ τ' ∧ ∀ t, t < B → rd τ' 184 t = rd τ 184 t := by
  obtain ⟨t1, a1, a2, a3⟩ := find_M (L := L) (xs := xs) hT hx d jv jv jv
  obtain ⟨n1, n2, n3, n4, n5⟩ := hR
  have hrx := hT.rlt hx
  have r87 : rd t1 123 87 = i32 (R.length : Int) := (a3.2 87 rfl).trans n1
  have r184 : ∀ i, rd t1 184 i = rd τ 184 i := fun i => a3.rd (j := 184) rfl i
  have r185 : ∀ i, rd t1 185 i = rd τ 185 i := fun i => a3.rd (j := 185) rfl i
  by_cases c : r x ∈ R
  · obtain ⟨i, hi⟩ := List.getElem?_of_mem c
    have hil : i < R.length := by
      apply Classical.byContradiction
      intro k
      rw [List.getElem?_eq_none (by omega)] at hi; cases hi
    have e := (n3 i _ hi).2.1
    have hne : pv_c1 .ne (i32 ((i + 1 : Nat) : Int)) = true := by
      refine decide_eq_true (fun k => ?_)
      have := (i32_inj (by omega) (by omega) (by omega) (by omega)).mp (show i32 ((i + 1 : Nat) : Int) = i32 ((0 : Nat) : Int) from k)
      omega
    refine ⟨t1, ?_, a2, ?_, a3.sub rfl rfl, fun t _ => r184 t⟩
    · rw [e351_0 (d + 1), bI_ok a1, c_in (by omega) (by omega) (by omega), i32_ixn (by omega), r184, e, hne, cond_true, e351_55]
    · unfold numA
      rw [if_pos c]
      exact ⟨r87, n2, fun j y hj => by rw [r184, r185]; exact n3 j y hj, fun t h1 h2 => by rw [r184]; exact n4 t h1 h2, n5⟩
  · have e := n4 (r x) hB c
    have w : frM [169, 184, 185] [87] τ (wr (wr (wr t1 185 R.length (i32 (r x : Int))) 123 87 (i32 ((R.length + 1 : Nat) : Int))) 184 (r x) (i32 ((R.length + 1 : Nat) : Int))) := (a3.sub rfl rfl).trans ((frM_wr rfl (by decide)).trans ((frM_w rfl).trans (frM_wr rfl (by decide))))
    refine ⟨_, ?_, ?_, ?_, w, fun t ht => by rw [wr_nei (by omega), wr_nek (by omega), wr_nek (by omega), r184]⟩
    · rw [e351_0 (d + 1), bI_ok a1, c_in (by omega) (by omega) (by omega), i32_ixn (by omega), r184, e, show pv_c1 .ne (0 : Int32) = false from rfl, cond_false, r87, show (20000 : Int32) = i32 20000 from rfl, c2_ge (by omega) (by omega) (by omega) (by omega), c_f (by omega), c_in (by omega) (by omega) (by omega), c_in (by omega) (by omega) (by omega), i32_ixn (by omega), i32_up, e351_55]
    · have w2 : frM [184, 185] [87] t1 (wr (wr (wr t1 185 R.length (i32 (r x : Int))) 123 87 (i32 ((R.length + 1 : Nat) : Int))) 184 (r x) (i32 ((R.length + 1 : Nat) : Int))) := (frM_wr rfl (by decide)).trans ((frM_w rfl).trans (frM_wr rfl (by decide)))
      exact a2.fr w2 rfl ⟨rfl, rfl, rfl, rfl⟩
    · unfold numA
      rw [if_neg c]
      refine ⟨?_, ?_, fun i y hi => ?_, fun t h1 h2 => ?_, ?_⟩
      · rw [wr_nek (by omega), wr_self, List.length_append]; rfl
      · rw [List.length_append]; show R.length + 1 ≤ 10000; omega
      · by_cases q : i < R.length
        · rw [List.getElem?_append_left q] at hi
          obtain ⟨b1, b2, b3⟩ := n3 i y hi
          have hy : y ≠ r x := fun k => c (by rw [← k]; exact List.mem_of_getElem? hi)
          refine ⟨?_, ?_, b3⟩
          · rw [wr_nek (by omega), wr_nek (by omega), wr_nei (by omega), r185]; exact b1
          · rw [wr_nei hy, wr_nek (by omega), wr_nek (by omega), r184]; exact b2
        · rw [List.getElem?_append_right (by omega)] at hi
          have h0 : i - R.length = 0 := by
            apply Classical.byContradiction
            intro k
            rw [List.getElem?_eq_none (by show 1 ≤ _; omega)] at hi; cases hi
          rw [h0] at hi
          have hi : r x = y := Option.some.inj hi
          subst hi
          rw [show i = R.length by omega]
          exact ⟨by rw [wr_nek (by omega), wr_nek (by omega), wr_self], by rw [wr_self], hB⟩
      · have hn : t ≠ r x := fun k => h2 (by rw [k]; exact List.mem_append_right _ List.mem_cons_self)
        rw [wr_nei hn, wr_nek (by omega), wr_nek (by omega), r184]
        exact n4 t h1 (fun k => h2 (List.mem_append_left _ k))
      · rw [List.nodup_append]
        exact ⟨n5, List.nodup_cons.mpr ⟨fun k => (by cases k), List.nodup_nil⟩, fun p hp q hq e => c (by rw [List.mem_singleton.mp hq] at e; rw [← e]; exact hp)⟩
end NUMM

/-! THE NAMED MACHINE WITHOUT FUEL, AND BLOCKS OF CODE AT ONCE -/
def tvA (x : tvR) (y : Nat → tvR) : Prop := ∀ r, x = some r → ∃ n, ∀ m, n ≤ m → y m = some r
theorem tvA_none {y : Nat → tvR} : tvA none y := fun r h => by cases h
theorem tvA_same (x : tvR) : tvA x (fun _ => x) := fun r h => ⟨0, fun m _ => h⟩
theorem tvA_cond {c : Bool} {a b : tvR} {a' b' : Nat → tvR} (h1 : tvA a a') (h2 : tvA b b') : tvA (cond c a b) (fun m => cond c (a' m) (b' m)) := by
  cases c
  · exact h2
  · exact h1
theorem tvA_cond0 {c : Bool} {a : tvR} {a' : Nat → tvR} (h1 : tvA a a') : tvA (cond c a .none) (fun m => cond c (a' m) .none) := tvA_cond h1 (tvA_same .none)
theorem tvA_bind {x : tvR} {y : Nat → tvR} {f : tvR → tvR} {g : Nat → tvR → tvR} (h : tvA x y) (h0 : f .none = .none) (hf : ∀ r, tvA (f (some r)) (fun m => g m (some r))) : tvA (f x) (fun m => g m (y m)) := by
  intro r hr
  cases x with
  | none => rw [h0] at hr; cases hr
  | some q =>
    obtain ⟨n1, h1⟩ := h q rfl
    obtain ⟨n2, h2⟩ := hf q r hr
    exact ⟨max n1 n2, fun m hm => by show g m (y m) = some r; rw [h1 m (Nat.le_trans (Nat.le_max_left _ _) hm)]; exact h2 m (Nat.le_trans (Nat.le_max_right _ _) hm)⟩
theorem tvA_bV {r : tvR} {r' : Nat → tvR} {K : tvS → tvR} {K' : Nat → tvS → tvR} {X : Nat → Nat → tvS → tvR} {X' : Nat → Nat → Nat → tvS → tvR} (h : tvA r r') (hK : ∀ σ, tvA (K σ) (fun m => K' m σ)) (hX : ∀ t k σ, tvA (X t k σ) (fun m => X' m t k σ)) : tvA (bV r K X) (fun m => bV (r' m) (K' m) (X' m)) := by
  refine tvA_bind (f := fun r => bV r K X) (g := fun m r => bV r (K' m) (X' m)) h rfl ?_
  rintro ⟨v, σ⟩
  rcases v with (_ | v) | ⟨t, k⟩
  · exact hK σ
  · cases v <;> exact tvA_none
  · exact hX t k σ
theorem tvA_bI {r : tvR} {r' : Nat → tvR} {K : Int32 → tvS → tvR} {K' : Nat → Int32 → tvS → tvR} {X : Nat → Nat → tvS → tvR} {X' : Nat → Nat → Nat → tvS → tvR} (h : tvA r r') (hK : ∀ x σ, tvA (K x σ) (fun m => K' m x σ)) (hX : ∀ t k σ, tvA (X t k σ) (fun m => X' m t k σ)) : tvA (bI r K X) (fun m => bI (r' m) (K' m) (X' m)) := by
  refine tvA_bind (f := fun r => bI r K X) (g := fun m r => bI r (K' m) (X' m)) h rfl ?_
  rintro ⟨v, σ⟩
  rcases v with (_ | v) | ⟨t, k⟩
  · exact tvA_none
  · cases v <;> first | exact hK _ σ | exact tvA_none
  · exact hX t k σ
theorem tvA_bL {r : tvR} {r' : Nat → tvR} {K : Int64 → tvS → tvR} {K' : Nat → Int64 → tvS → tvR} {X : Nat → Nat → tvS → tvR} {X' : Nat → Nat → Nat → tvS → tvR} (h : tvA r r') (hK : ∀ x σ, tvA (K x σ) (fun m => K' m x σ)) (hX : ∀ t k σ, tvA (X t k σ) (fun m => X' m t k σ)) : tvA (bL r K X) (fun m => bL (r' m) (K' m) (X' m)) := by
  refine tvA_bind (f := fun r => bL r K X) (g := fun m r => bL r (K' m) (X' m)) h rfl ?_
  rintro ⟨v, σ⟩
  rcases v with (_ | v) | ⟨t, k⟩
  · exact tvA_none
  · cases v <;> first | exact hK _ σ | exact tvA_none
  · exact hX t k σ
theorem tvA_bF {r : tvR} {r' : Nat → tvR} {K : UInt32 → tvS → tvR} {K' : Nat → UInt32 → tvS → tvR} {X : Nat → Nat → tvS → tvR} {X' : Nat → Nat → Nat → tvS → tvR} (h : tvA r r') (hK : ∀ x σ, tvA (K x σ) (fun m => K' m x σ)) (hX : ∀ t k σ, tvA (X t k σ) (fun m => X' m t k σ)) : tvA (bF r K X) (fun m => bF (r' m) (K' m) (X' m)) := by
  refine tvA_bind (f := fun r => bF r K X) (g := fun m r => bF r (K' m) (X' m)) h rfl ?_
  rintro ⟨v, σ⟩
  rcases v with (_ | v) | ⟨t, k⟩
  · exact tvA_none
  · cases v <;> first | exact hK _ σ | exact tvA_none
  · exact hX t k σ
theorem tvA_bC {rk : Nat} {r : tvR} {r' : Nat → tvR} {K : List Value → tvS → tvR} {K' : Nat → List Value → tvS → tvR} {X : Nat → Nat → tvS → tvR} {X' : Nat → Nat → Nat → tvS → tvR} (h : tvA r r') (hK : ∀ x σ, tvA (K x σ) (fun m => K' m x σ)) (hX : ∀ t k σ, tvA (X t k σ) (fun m => X' m t k σ)) : tvA (bC rk r K X) (fun m => bC rk (r' m) (K' m) (X' m)) := by
  unfold bC
  exact tvA_cond (tvA_bV h (fun σ => hK _ σ) hX) (tvA_cond (tvA_bI h (fun x σ => hK _ σ) hX) (tvA_cond (tvA_bL h (fun x σ => hK _ σ) hX) (tvA_bF h (fun x σ => hK _ σ) hX)))
theorem tvA_swk {M pc : Nat} {x : Int32} {K : Nat → tvR} {K' : Nat → Nat → tvR} (hK : ∀ p, tvA (K p) (fun m => K' m p)) : tvA (swk M pc x K) (fun m => swk M pc x (K' m)) := by
  unfold swk
  cases insP M pc with
  | none => exact tvA_none
  | some q =>
    obtain ⟨i, a, b, c, e⟩ := q
    show tvA ((tv_sw i pc x).bind K) (fun m => (tv_sw i pc x).bind (K' m))
    cases tv_sw i pc x with
    | none => exact tvA_none
    | some p => exact hK p
theorem tvA_opk {o : Option (Bool × tvL × List Value × tvS)} {K : tvL → List Value → tvS → tvR} {K' : Nat → tvL → List Value → tvS → tvR} (hK : ∀ a b c, tvA (K a b c) (fun m => K' m a b c)) : tvA (opk o K) (fun m => opk o (K' m)) := by
  cases o with
  | none => exact tvA_none
  | some q => exact tvA_cond0 (hK _ _ _)
theorem tvA_mI {st : List Value} {K : Int32 → List Value → tvR} {K' : Nat → Int32 → List Value → tvR} (hK : ∀ a b, tvA (K a b) (fun m => K' m a b)) : tvA (mI st K) (fun m => mI st (K' m)) := by
  unfold mI
  split
  · exact hK _ _
  · exact tvA_none
theorem tvA_mII {st : List Value} {K : Int32 → Int32 → List Value → tvR} {K' : Nat → Int32 → Int32 → List Value → tvR} (hK : ∀ a b c, tvA (K a b c) (fun m => K' m a b c)) : tvA (mII st K) (fun m => mII st (K' m)) := by
  unfold mII
  split
  · exact hK _ _ _
  · exact tvA_none
theorem tvA_mR {st : List Value} {K K0 : List Value → tvR} {K' K0' : Nat → List Value → tvR} (hK : ∀ a, tvA (K a) (fun m => K' m a)) (hK0 : ∀ a, tvA (K0 a) (fun m => K0' m a)) : tvA (mR st K K0) (fun m => mR st (K' m) (K0' m)) := by
  unfold mR
  split
  · exact hK _
  · exact hK0 _
  · exact tvA_none
theorem tvA_mF {st : List Value} {K : UInt32 → List Value → tvR} {K' : Nat → UInt32 → List Value → tvR} (hK : ∀ a b, tvA (K a b) (fun m => K' m a b)) : tvA (mF st K) (fun m => mF st (K' m)) := by
  unfold mF
  split
  · exact hK _ _
  · exact tvA_none
theorem tvA_mIF {st : List Value} {K : Int32 → UInt32 → List Value → tvR} {K' : Nat → Int32 → UInt32 → List Value → tvR} (hK : ∀ a b c, tvA (K a b c) (fun m => K' m a b c)) : tvA (mIF st K) (fun m => mIF st (K' m)) := by
  unfold mIF
  split
  · exact hK _ _ _
  · exact tvA_none
theorem tvA_mG {st : List Value} {K : Int32 → Nat → Nat → List Value → tvR} {K' : Nat → Int32 → Nat → Nat → List Value → tvR} (hK : ∀ a b c d, tvA (K a b c d) (fun m => K' m a b c d)) : tvA (mG st K) (fun m => mG st (K' m)) := by
  unfold mG
  split
  · exact hK _ _ _ _
  · exact tvA_none
theorem tvA_mD {d : Nat} {K : Nat → tvR} {K' : Nat → Nat → tvR} (hK : ∀ a, tvA (K a) (fun m => K' m a)) : tvA (mD d K) (fun m => mD d (K' m)) := by
  cases d with
  | zero => exact tvA_none
  | succ d => exact hK d
theorem tvA_mP {q : Option pvI} {K : Nat → Nat → tvR} {K' : Nat → Nat → Nat → tvR} (hK : ∀ a b, tvA (K a b) (fun m => K' m a b)) : tvA (mP q K) (fun m => mP q (K' m)) := by
  unfold mP
  split
  · exact hK _ _
  · exact tvA_none
theorem tvA_hx {h : Option Nat} {K : Nat → tvR} {K' : Nat → Nat → tvR} {x : tvR} (hK : ∀ a, tvA (K a) (fun m => K' m a)) : tvA (tv_hx h K x) (fun m => tv_hx h (K' m) x) := by
  cases h with
  | none => exact tvA_same x
  | some p => exact hK p
section TVG2
variable {E : Nat → Nat → Nat → tvL → List Value → tvS → tvR} {N : Nat → tvL → List Value → tvS → tvR} {E' : Nat → Nat → Nat → Nat → tvL → List Value → tvS → tvR} {N' : Nat → Nat → tvL → List Value → tvS → tvR}
theorem tv_call_ap (hE : ∀ d M pc ls st σ, tvA (E d M pc ls st σ) (fun m => E' m d M pc ls st σ)) (hN : ∀ pc ls st σ, tvA (N pc ls st σ) (fun m => N' m pc ls st σ)) (d M pc M' n : Nat) (ls : tvL) (st : List Value) (σ : tvS) : tvA (tv_call E N d M pc M' n ls st σ) (fun m => tv_call (E' m) (N' m) d M pc M' n ls st σ) := by
  unfold tv_call
  refine tvA_cond0 (tvA_mD fun d' => tvA_bC (hE _ _ _ _ _ _) (fun vs σ2 => tvA_cond0 (hN _ _ _ _)) (fun t k σ2 => tvA_hx fun hp => hE _ _ _ _ _ _))
theorem tv_grow_ap (hE : ∀ d M pc ls st σ, tvA (E d M pc ls st σ) (fun m => E' m d M pc ls st σ)) (d M pc : Nat) (ls : tvL) (st : List Value) (σ : tvS) : tvA (tv_grow E d M pc ls st σ) (fun m => tv_grow (E' m) d M pc ls st σ) := by
  unfold tv_grow
  exact tvA_mG fun n k o r => tvA_mP fun ci f => tvA_cond0 (tvA_cond0 (hE _ _ _ _ _ _))
theorem tv_opN (hN : ∀ pc ls st σ, tvA (N pc ls st σ) (fun m => N' m pc ls st σ)) (p : Nat) (o : Option (Bool × tvL × List Value × tvS)) : tvA (opk o (fun ls' st' σ' => N p ls' st' σ')) (fun m => opk o (fun ls' st' σ' => N' m p ls' st' σ')) := tvA_opk fun a b c => hN _ _ _ _
set_option maxHeartbeats 4000000 in
theorem tv_G_ap (hE : ∀ d M pc ls st σ, tvA (E d M pc ls st σ) (fun m => E' m d M pc ls st σ)) (hN : ∀ pc ls st σ, tvA (N pc ls st σ) (fun m => N' m pc ls st σ)) {L : Nat} {xs : Nat → Int32} (d M pc : Nat) (i : Instr) (r1 r2 r3 : Nat) (ls : tvL) (st : List Value) (σ : tvS) :
    tvA (tv_G E N L xs d M pc i r1 r2 r3 ls st σ) (fun m => tv_G (E' m) (N' m) L xs d M pc i r1 r2 r3 ls st σ) := by
  cases i
  case ifCond c off => exact tvA_mI fun x r => tvA_cond (hE _ _ _ _ _ _) (hN _ _ _ _)
  case if_icmp c off => exact tvA_mII fun x y r => tvA_cond (hE _ _ _ _ _ _) (hN _ _ _ _)
  case ifnull off => exact tvA_mR (fun r => hN _ _ _ _) (fun r => hE _ _ _ _ _ _)
  case goto off => exact hE _ _ _ _ _ _
  case tableswitch a b c e => exact tvA_mI fun x r => tvA_swk fun p => hE _ _ _ _ _ _
  case lookupswitch a b => exact tvA_mI fun x r => tvA_swk fun p => hE _ _ _ _ _ _
  case new a => exact tvA_same _
  case invokevirtual a => exact tvA_cond (tvA_mF fun j r => tvA_cond0 (tvA_mD fun _ => hN _ _ _ _)) (tvA_cond (tvA_mIF fun i j r => tvA_cond0 (tvA_mD fun _ => tvA_cond0 (hN _ _ _ _))) (tvA_cond0 (tv_call_ap hE hN _ _ _ _ _ _ _ _)))
  case invokestatic a => exact tvA_cond0 (tvA_cond (tvA_mD fun _ => tvA_cond0 (tv_grow_ap hE _ _ _ _ _ _)) (tv_call_ap hE hN _ _ _ _ _ _ _ _))
  case ireturn => exact tvA_same _
  case lreturn => exact tvA_same _
  case areturn => exact tvA_same _
  case return_ => exact tvA_same _
  all_goals (simp only [tv_G]; exact tv_opN hN _ _)
end TVG2
section RN
variable (L : Nat) (xs : Nat → Int32)
theorem tv_mono : ∀ (n : Nat) (d M pc : Nat) (ls : tvL) (st : List Value) (σ : tvS) r, tv_exec L xs n d M pc ls st σ = some r → tv_exec L xs (n + 1) d M pc ls st σ = some r := by
  intro n
  induction n with
  | zero => intro d M pc ls st σ r h; cases h
  | succ n ih =>
    intro d M pc ls st σ r h
    unfold tv_exec at h ⊢
    cases hi : insP M pc with
    | none => rw [hi] at h; cases h
    | some q =>
      obtain ⟨i, a, r1, r2, r3⟩ := q
      rw [hi] at h
      obtain ⟨k, hk⟩ := tv_G_ap (E := tv_exec L xs n) (E' := fun _ => tv_exec L xs (n + 1)) (N := fun pc' ls' st' σ' => tv_exec L xs n d M pc' ls' st' σ') (N' := fun _ pc' ls' st' σ' => tv_exec L xs (n + 1) d M pc' ls' st' σ')
        (fun d M pc ls st σ r h => ⟨0, fun _ _ => ih _ _ _ _ _ _ _ h⟩) (fun pc ls st σ r h => ⟨0, fun _ _ => ih _ _ _ _ _ _ _ h⟩) d M pc i r1 r2 r3 ls st σ r h
      exact hk k (Nat.le_refl k)
theorem tv_mono' {n m : Nat} (hnm : n ≤ m) {d M pc : Nat} {ls : tvL} {st : List Value} {σ : tvS} {r} (h : tv_exec L xs n d M pc ls st σ = some r) : tv_exec L xs m d M pc ls st σ = some r := by
  induction hnm with
  | refl => exact h
  | step _ ih => exact tv_mono L xs _ _ _ _ _ _ _ _ ih
def rnP (d M pc : Nat) (ls : tvL) (st : List Value) (σ : tvS) (r : tvR) : Prop := (∃ q n, r = some q ∧ tv_exec L xs n d M pc ls st σ = some q) ∨ (r = none ∧ ∀ n, tv_exec L xs n d M pc ls st σ = none)
theorem rn_ex (d M pc : Nat) (ls : tvL) (st : List Value) (σ : tvS) : ∃ r, rnP L xs d M pc ls st σ r := by
  by_cases h : ∃ q n, tv_exec L xs n d M pc ls st σ = some q
  · obtain ⟨q, n, h⟩ := h
    exact ⟨some q, Or.inl ⟨q, n, rfl, h⟩⟩
  · refine ⟨none, Or.inr ⟨rfl, fun n => ?_⟩⟩
    cases e : tv_exec L xs n d M pc ls st σ with
    | none => rfl
    | some q => exact absurd ⟨q, n, e⟩ h
noncomputable def rn (d M pc : Nat) (ls : tvL) (st : List Value) (σ : tvS) : tvR := Classical.choose (rn_ex L xs d M pc ls st σ)
theorem rn_of {n d M pc : Nat} {ls : tvL} {st : List Value} {σ : tvS} {q} (h : tv_exec L xs n d M pc ls st σ = some q) : rn L xs d M pc ls st σ = some q := by
  rcases Classical.choose_spec (rn_ex L xs d M pc ls st σ) with ⟨q', n', h1, h2⟩ | ⟨h1, h2⟩
  · have e1 := tv_mono' L xs (Nat.le_max_left n n') h
    have e2 := tv_mono' L xs (Nat.le_max_right n n') h2
    rw [e1] at e2
    cases e2
    exact h1
  · rw [h2 n] at h; cases h
theorem rn_to {d M pc : Nat} {ls : tvL} {st : List Value} {σ : tvS} {q} (h : rn L xs d M pc ls st σ = some q) : ∃ n, ∀ m, n ≤ m → tv_exec L xs m d M pc ls st σ = some q := by
  rcases Classical.choose_spec (rn_ex L xs d M pc ls st σ) with ⟨q', n', h1, h2⟩ | ⟨h1, h2⟩
  · have : rn L xs d M pc ls st σ = some q' := h1
    rw [h] at this
    cases this
    exact ⟨n', fun m hm => tv_mono' L xs hm h2⟩
  · have : rn L xs d M pc ls st σ = none := h1
    rw [h] at this; cases this
theorem opt_ext {α : Type} {x y : Option α} (h1 : ∀ r, x = some r → y = some r) (h2 : ∀ r, y = some r → x = some r) : x = y := by
  cases x with
  | none =>
    cases y with
    | none => rfl
    | some b => exact (h2 b rfl)
  | some a => exact (h1 a rfl).symm
theorem rn_eq {d M pc : Nat} {ls : tvL} {st : List Value} {σ : tvS} {i : Instr} {a r1 r2 r3 : Nat} (hi : insP M pc = some (i, a, r1, r2, r3)) : rn L xs d M pc ls st σ = tv_G (rn L xs) (fun pc' ls' st' σ' => rn L xs d M pc' ls' st' σ') L xs d M pc i r1 r2 r3 ls st σ := by
  refine opt_ext (fun r h => ?_) (fun r h => ?_)
  · obtain ⟨n, hn⟩ := rn_to L xs h
    have h1 := hn (n + 1) (Nat.le_succ n)
    unfold tv_exec at h1
    rw [hi] at h1
    obtain ⟨k, hk⟩ := tv_G_ap (E := tv_exec L xs n) (E' := fun _ => rn L xs) (N := fun pc' ls' st' σ' => tv_exec L xs n d M pc' ls' st' σ') (N' := fun _ pc' ls' st' σ' => rn L xs d M pc' ls' st' σ')
        (fun d M pc ls st σ r h => ⟨0, fun _ _ => rn_of L xs h⟩) (fun pc ls st σ r h => ⟨0, fun _ _ => rn_of L xs h⟩) d M pc i r1 r2 r3 ls st σ r h1
    exact hk k (Nat.le_refl k)
  · obtain ⟨k, hk⟩ := tv_G_ap (E := rn L xs) (E' := tv_exec L xs) (N := fun pc' ls' st' σ' => rn L xs d M pc' ls' st' σ') (N' := fun m pc' ls' st' σ' => tv_exec L xs m d M pc' ls' st' σ')
        (fun d M pc ls st σ r h => rn_to L xs h) (fun pc ls st σ r h => rn_to L xs h) d M pc i r1 r2 r3 ls st σ r h
    refine rn_of L xs (n := k + 1) ?_
    unfold tv_exec
    rw [hi]
    exact hk k (Nat.le_refl k)
/-- a block of instructions, one behind another -/
noncomputable def bx (d M : Nat) : List (Nat × pvI) → Nat → tvL → List Value → tvS → tvR
  | [], pc, ls, st, σ => rn L xs d M pc ls st σ
  | q :: r, pc, ls, st, σ => cond (Nat.beq q.1 pc) (tv_G (rn L xs) (fun pc' ls' st' σ' => bx d M r pc' ls' st' σ') L xs d M pc q.2.1 q.2.2.2.1 q.2.2.2.2.1 q.2.2.2.2.2 ls st σ) (rn L xs d M pc ls st σ)
theorem bx_rn {d M : Nat} : ∀ (B : List (Nat × pvI)), (∀ q ∈ B, insP M q.1 = some q.2) → ∀ pc ls st σ, rn L xs d M pc ls st σ = bx L xs d M B pc ls st σ := by
  intro B
  induction B with
  | nil => intro _ pc ls st σ; rfl
  | cons q r ih =>
    intro h pc ls st σ
    have e1 : (fun pc' ls' st' σ' => rn L xs d M pc' ls' st' σ') = (fun pc' ls' st' σ' => bx L xs d M r pc' ls' st' σ') := by
      funext a b c e
      exact ih (fun q hq => h q (List.mem_cons_of_mem _ hq)) a b c e
    show _ = cond (Nat.beq q.1 pc) _ _
    cases hb : Nat.beq q.1 pc with
    | false => rfl
    | true =>
      have hq : q.1 = pc := Nat.eq_of_beq_eq_true hb
      have hi := h q List.mem_cons_self
      rw [hq] at hi
      obtain ⟨a, i, b, r1, r2, r3⟩ := q
      rw [rn_eq L xs hi, e1]
      rfl
end RN

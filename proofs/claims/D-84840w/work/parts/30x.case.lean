/-! READING: case -/
section CASE
variable {L : Nat} {xs : Nat → Int32} {K1 K2 m : Nat} {μ : Nat → Nat} {g fc : Nat} {sc : List Nat} {fs fs' : List (Nat × Nat × List Nat)} {F D H n A P r r0 : Nat} {σ τ σ' τ' σ1 τ1 : tvS}
theorem rdne {k i k' i' : Nat} {x : Int32} (h : ¬ (k' = k ∧ i' = i)) : rd (wr σ k i x) k' i' = rd σ k' i' := by rw [rd_wr, if_neg h]
theorem FLT.raw {R : tvR} {k p : Int32} {τp : tvS} (hr : roomC K1 K2 σ) (hR : R = some (.inr (1016, (rm σ).1), cFlt σ k p)) (hm : mS L xs τp (mFlt τ1 k p)) (hk : pv_c1 .le k = false) : FLT L xs K1 K2 τp R :=
  ⟨σ, _, k, p, hR, hr, hm, mFlt_5, by unfold mFlt; rw [wr_self], hk⟩
/-- of a case: the names, and what stands behind them -/
theorem names_ok {B d A0 : Nat} {Q : Int32 → tvS → tvS → Prop} (hE : NT L xs K1 K2 m μ g fc 1 119 0 0 [jv] B) (h : ST K1 K2 m μ g fc sc fs D H (n + 1) A P r σ τ) (hI : IT τ n 28 (i32 A0) 0) (hB : m - A ≤ B) (hn : n ≤ 8 * A + 1) (hd : 12 * (40 - D) + 20 + 10 ≤ d + 1)
    (K : Int32 → Int32 → Int32 → tvS → tvR)
    (hK : ∀ (V A2 P2 : Nat) (σ' τ' : tvS), V + 1 ≤ A2 → A + 4 < A2 → P < P2 → ST K1 K2 m μ g fc ((V + 1) :: V :: sc) fs D H (n + 1) A2 P2 (r + 1) σ' τ' → IT τ' n 29 (i32 A0) (i32 V) → TOP (A + 4) P A2 P2 r σ' τ' → P2 + ach μ (A + 4) + wch μ (A + 4) ≤ P + wch μ A2 → aen (μ (A2 - 1)) = true → OLDe [V, V + 1] n r H P σ τ σ' τ' → NV V sc (rd σ 62 5) (rd σ 62 6) σ' → rd σ' 31 (V + 1) = rd σ 62 6 → rd σ' 62 5 = i32 (V + 1 : Nat) → V + 1 < ix (rd σ' 15 19) → OUTI L xs K1 K2 τ' (K (i32 V) (i32 (V + 1 : Nat)) (i32 (P2 - 1 : Nat)) σ') Q) :
    OUTI L xs K1 K2 τ (bI (rn L xs d 116 0 [.ref 62, .int (rd σ 62 5), jv, jv] [] σ) (fun a2 s1 => bV (rn L xs d 112 0 [.ref 62, .int 259] [] s1) (fun s3 => bI (rn L xs d 116 0 [.ref 62, .int a2, jv, jv] [] s3) (fun a5 s4 => bV (rn L xs d 112 0 [.ref 62, .int 256] [] s4) (fun s6 => bI (rn L xs d 119 0 [.ref 62, jv] [] (wr s6 62 5 a5)) (fun a8 s7 => K a2 a5 a8 s7) X0) X0) X0) X0) X0) Q := by
  obtain ⟨d, rfl⟩ : ∃ d', d = d' + 4 := ⟨d - 4, by omega⟩
  have hpop := h.pop
  have hms : ∀ τe, (∀ dm, rn L xs (dm + 7) 319 0 [.ref 123, .int (i32 A0), jv, jv] [] (wr τ 123 18 (i32 n)) = some (.inl none, τe)) → mS L xs τ τe := by
    intro τe he
    obtain ⟨o1, o2, o3, o4, o5, o6, ⟨s1, s2, s3, s4, s5, s6, s7, s8, s9, s10, s11, s12⟩, o8, o9, o10⟩ := h.all
    refine nx s6 (by omega) o3 hI (pc := 330) (by decide +kernel) (fun dm => ?_)
    rw [e310_330 (dm + 7), bV_ok (he dm), e310_362]
  have holdp : OLD n r H P σ τ σ (wr τ 123 18 (i32 n)) := OLD.refl.wrM (by omega)
  generalize wr τ 123 18 (i32 n) = τp at hpop hms holdp
  obtain ⟨o1, o2, o3, o4, ⟨o5, o5'⟩, o6, ⟨s1, s2, s3, s4, s5, s6, s7, s8, s9, s10, s11, s12⟩, o8, o9, o10⟩ := hpop.all
  obtain ⟨V, g1, g2, g3, g4, g5⟩ := hpop.cvarN (L := L) (xs := xs)
  by_cases q : vck σ (μ A) A g fc sc = 0
  · obtain ⟨k1, k2, k3, k4⟩ := g5 q
    rw [bI_ok ((g3 d).trans (if_pos q))]
    have h306 := fun dm => (g4 (dm + 4)).trans (if_pos q)
    have hcV19 : rd (cVar σ A V (rd σ 62 5) sc.length) 15 19 = i32 (V + 1 : Nat) := cVar_at.2.2.2.2.2
    have hc5 : rd (cVar σ A V (rd σ 62 5) sc.length) 62 5 = rd σ 62 5 := cVar_oth (by omega) (by omega) (by omega)
    have hc6 : rd (cVar σ A V (rd σ 62 5) sc.length) 62 6 = rd σ 62 6 := cVar_oth (by omega) (by omega) (by omega)
    generalize cVar σ A V (rd σ 62 5) sc.length = σ2 at *
    generalize mVar τp A V = τ2 at *
    obtain ⟨p1, p2, p3, p4, ⟨p5, p5'⟩, p6, ⟨r1, r2, r3, r4, r5, r6, r7, r8, r9, r10, r11, r12⟩, p8, p9, p10⟩ := k2.all
    have hmsg := k2.ms (L := L) (xs := xs) (x := 259) (k := 23) rfl (by omega) (by omega) d
    have e319 : ∀ τe, (∀ dm, bI (rn L xs (dm + 6) 303 0 [.ref 123, .int 23] [] τ2) (fun a4 s3 => cond (pv_c1 .ne a4) (rn L xs (dm + 7) 319 22 [.ref 123, .int (i32 A0), .int (i32 V), jv] [] s3) (some (.inl none, s3))) X0 = some (.inl none, τe)) → mS L xs τ τe := by
      intro τe he
      refine hms _ (fun dm => ?_)
      rw [e319_0 (dm + 6), bI_ok (h306 dm), p3, show pv_c1 .gt (0 : Int32) = false from rfl, cond_false]
      simp only [e319_21]
      exact he dm
    by_cases q2 : μ (A + 1) = 23
    · rw [if_pos q2] at hmsg
      rw [bV_ok hmsg]
      have hlt2 := k2.lt (by omega)
      have hAg : agC σ2 (wr σ2 62 3 (i32 (A + 1 + 1 : Nat))) := agC.refl.wr rfl
      have hAm : agM τ2 (wr τ2 123 17 (i32 (A + 1 + 1 : Nat))) := agM.refl.wr rfl
      have k3' : NV V sc (rd σ2 62 5) (rd σ2 62 6) σ2 := by rw [hc5, hc6]; exact k3
      obtain ⟨S, j1, ⟨jS1, jS2⟩, j2⟩ := k2.opn (L := L) (xs := xs) (v := V) (A' := A + 1 + 1) (n' := n) (Nat.le_refl _) hlt2 hAg hAm (by rw [wr_self]) (by rw [wr_self]) (by rw [rd_wr, if_neg (by omega)]; exact r3) (by rw [rd_wr, if_neg (by omega)]; exact r4) (by rw [rd_wr, if_neg (by omega)]; exact r5) (by rw [rd_wr, if_neg (by omega)]; exact r6) (by omega) (by rw [rd_wr, if_neg (by omega)]; exact r7) k3' (by rw [k4.x144]; exact hpop.v0 g2 (by omega))
      have hold3 : OLD n r H P σ2 τ2 (wr (wr σ2 62 3 (i32 (A + 1 + 1 : Nat))) 62 5 (i32 V)) (mOpen (wr τ2 123 17 (i32 (A + 1 + 1 : Nat))) V sc.length S) := OLD.opn jS1 jS2 ((OLD.refl.wrC (Or.inl rfl)).wrM (by omega))
      have e22 : ∀ τe, (∀ dm, bI (rn L xs (dm + 5) 306 0 [.ref 123, jv, jv] [] (mOpen (wr τ2 123 17 (i32 (A + 1 + 1 : Nat))) V sc.length S)) (fun a2 s1 => bI (some (.inl (some (.int a2)), s1)) (fun a3 s2 => cond (pv_c1 .gt (rd s2 123 5)) (some (.inl none, s2)) (bI (rn L xs (dm + 6) 303 0 [.ref 123, .int 20] [] s2) (fun a5 s4 => cond (pv_c1 .ne a5) (rn L xs (dm + 7) 319 49 [.ref 123, .int (i32 A0), .int (i32 V), .int a3] [] s4) (some (.inl none, s4))) X0)) X0) X0 = some (.inl none, τe)) → mS L xs τ τe := by
        intro τe he
        refine e319 _ (fun dm => ?_)
        have ht := k2.take (L := L) (xs := xs) (x := 23) (k := 23) rfl (by omega) (dm + 4)
        rw [if_pos q2] at ht
        rw [bI_ok ht, show pv_c1 .ne (1 : Int32) = true from rfl, cond_true, e319_22 (dm + 6), bV_ok (j1 (dm + 5)), e320_0 (dm + 5)]
        simp only [e319_48]
        have he := he dm
        generalize rn L xs (dm + 5) 306 0 [.ref 123, jv, jv] [] (mOpen (wr τ2 123 17 (i32 (A + 1 + 1 : Nat))) V sc.length S) = R at he ⊢
        match R, he with
        | some (.inl (some (.int a)), s), he => exact he
        | some (.inr (t, k), s), he => exact absurd he (by simp [bI, X0])
        | none, he => exact absurd he (by simp [bI])
        | some (.inl none, s), he => exact absurd he (by simp [bI])
        | some (.inl (some (.long a)), s), he => exact absurd he (by simp [bI])
        | some (.inl (some (.float a)), s), he => exact absurd he (by simp [bI])
        | some (.inl (some (.double a)), s), he => exact absurd he (by simp [bI])
        | some (.inl (some (.ref a)), s), he => exact absurd he (by simp [bI])
        | some (.inl (some .null), s), he => exact absurd he (by simp [bI])
        | some (.inl (some (.retAddr a)), s), he => exact absurd he (by simp [bI])
      -- the second, where the first is in scope
      obtain ⟨V2, f1, f2, f3, f4, f5⟩ := j2.cvarN (L := L) (xs := xs)
      have hV2 : V2 = V + 1 := by
        have e : rd (wr (wr σ2 62 3 (i32 (A + 1 + 1 : Nat))) 62 5 (i32 V)) 15 19 = i32 (V + 1 : Nat) := by rw [wr_nek (by omega), wr_nek (by omega)]; exact hcV19
        have := (i32_inj (by omega) (by omega) (by omega) (by omega)).mp (f2.symm.trans e)
        omega
      subst hV2
      have hck : vck (wr (wr σ2 62 3 (i32 (A + 1 + 1 : Nat))) 62 5 (i32 V)) (μ (A + 1 + 1)) (A + 1 + 1) g fc (V :: sc) = vck (wr σ2 62 3 (i32 (A + 1 + 1 : Nat))) (μ (A + 1 + 1)) (A + 1 + 1) g fc (V :: sc) := rfl
      rw [hck] at f4 f5
      have hLV3 : LV m (wr σ2 62 3 (i32 (A + 1 + 1 : Nat))) τ2 := p1.wrC rfl
      have hroom3 : roomC K1 K2 (wr σ2 62 3 (i32 (A + 1 + 1 : Nat))) := p10
      have hch3 : chC (wr σ2 62 3 (i32 (A + 1 + 1 : Nat))) (V :: sc) (i32 V) := by
        have := j2.ch
        rw [wr_self] at this
        exact this.congr _ _ (fun u _ => ⟨(wr_nek (by omega)).symm, (wr_nek (by omega)).symm⟩)
      obtain ⟨F4, V4, S4, c1, ⟨b1, b2, b3, b4, b5, b6, b7⟩, c3, c4, _⟩ := k2.core
      have hlen : (V :: sc).length ≤ 40 := by
        have := k3.2.2.2.2.1
        show sc.length + 1 ≤ 40
        omega
      have hrun2 := cvar_run (L := L) (xs := xs) (V := V + 1) hLV3 p2 (A := A + 1 + 1) (by omega) (by rw [wr_self]) hch3 hlen (show xnOK (wr σ2 62 3 (i32 (A + 1 + 1 : Nat))) = true from p4) ((wr_nek (by omega)).trans b4) ((by rw [rd_wr, if_neg (by omega)]; exact b1)) b6.1 b3 ((wr_nek (by omega)).trans hcV19) (by omega) d
      by_cases q3 : vck (wr σ2 62 3 (i32 (A + 1 + 1 : Nat))) (μ (A + 1 + 1)) (A + 1 + 1) g fc (V :: sc) = 0
      · rw [bI_ok (hrun2.trans (if_pos q3))]
        obtain ⟨l1, l2, l3, l4⟩ := f5 q3
        have h306b := fun dm => (f4 (dm + 3)).trans (if_pos q3)
        have hv5 : rd (wr (wr σ2 62 3 (i32 (A + 1 + 1 : Nat))) 62 5 (i32 V)) 62 5 = i32 V := wr_self _ _ _ _
        rw [hv5] at l2 l3 l4
        -- both forms of the state tell the same
        have hsame : ∀ (x y : Int32) (j i : Nat), rd (wr (wr (cVar (wr σ2 62 3 (i32 (A + 1 + 1 : Nat))) (A + 1 + 1) (V + 1) (i32 V) (V :: sc).length) 62 3 x) 62 5 y) j i = rd (wr (wr (cVar (wr (wr σ2 62 3 (i32 (A + 1 + 1 : Nat))) 62 5 (i32 V)) (A + 1 + 1) (V + 1) (i32 V) (V :: sc).length) 62 3 x) 62 5 y) j i := fun x y j i => by
          by_cases e1 : j = 62 ∧ i = 5
          · rw [e1.1, e1.2, wr_self, wr_self]
          · rw [rdne e1, rdne e1]
            by_cases e2 : j = 62 ∧ i = 3
            · rw [e2.1, e2.2, wr_self, wr_self]
            · rw [rdne e2, rdne e2]
              by_cases e3 : j = 15 ∧ i = 19
              · rw [e3.1, e3.2, cVar_at.2.2.2.2.2, cVar_at.2.2.2.2.2]
              · by_cases e4 : 30 ≤ j ∧ j ≤ 33 ∧ i = V + 1
                · obtain ⟨e5, e6, e7⟩ := e4
                  have : j = 30 ∨ j = 31 ∨ j = 32 ∨ j = 33 := by omega
                  rw [e7]
                  rcases this with e | e | e | e <;> rw [e]
                  · rw [cVar_at.1, cVar_at.1]
                  · rw [cVar_at.2.1, cVar_at.2.1, rd_wr (i := 5), if_neg (by omega)]
                  · rw [cVar_at.2.2.1, cVar_at.2.2.1]
                  · rw [cVar_at.2.2.2.1, cVar_at.2.2.2.1]
                · rw [cVar_oth e2 e3 e4, cVar_oth e2 e3 e4, rd_wr (i := 5), if_neg e1]
        have hsame2 : (cVar (wr σ2 62 3 (i32 (A + 1 + 1 : Nat))) (A + 1 + 1) (V + 1) (i32 V) (V :: sc).length).2 = (cVar (wr (wr σ2 62 3 (i32 (A + 1 + 1 : Nat))) 62 5 (i32 V)) (A + 1 + 1) (V + 1) (i32 V) (V :: sc).length).2 := rfl
        have hvo : ∀ j i, ¬ (j = 62 ∧ i = 5) → rd (cVar (wr σ2 62 3 (i32 (A + 1 + 1 : Nat))) (A + 1 + 1) (V + 1) (i32 V) (V :: sc).length) j i = rd (cVar (wr (wr σ2 62 3 (i32 (A + 1 + 1 : Nat))) 62 5 (i32 V)) (A + 1 + 1) (V + 1) (i32 V) (V :: sc).length) j i := fun j i hj => by
          by_cases e2 : j = 62 ∧ i = 3
          · rw [e2.1, e2.2, cVar_at.2.2.2.2.1, cVar_at.2.2.2.2.1]
          · have := hsame 0 0 j i
            rw [rdne hj, rdne hj, rdne e2, rdne e2] at this
            exact this
        generalize cVar (wr σ2 62 3 (i32 (A + 1 + 1 : Nat))) (A + 1 + 1) (V + 1) (i32 V) (V :: sc).length = σ5 at *
        generalize hσ5v : cVar (wr (wr σ2 62 3 (i32 (A + 1 + 1 : Nat))) 62 5 (i32 V)) (A + 1 + 1) (V + 1) (i32 V) (V :: sc).length = σ5v at *
        generalize mVar (mOpen (wr τ2 123 17 (i32 (A + 1 + 1 : Nat))) V sc.length S) (A + 1 + 1) (V + 1) = τ5 at *
        obtain ⟨u1, u2, u3, u4, ⟨u5, u5'⟩, u6, ⟨t1, t2, t3, t4, t5, t6, t7, t8, t9, t10, t11, t12⟩, u8, u9, u10⟩ := l2.all
        have hLV5 : LV m σ5 τ5 := (u1.congr (σ' := σ5) (τ' := τ5) (fun j hj i => by have := inL3 hj; exact hvo j i (by omega)) (fun i => by unfold rl; rw [hsame2]) (fun _ _ _ => rfl)).1
        have hroom5 : roomC K1 K2 σ5 := by unfold roomC at u10 ⊢; unfold ln rm at u10 ⊢; rw [hsame2]; exact u10
        have hms5 := rmust_ok (L := L) (xs := xs) (μ := 20) hLV5 (A := A + 1 + 1 + 1) t8 ((hvo _ _ (by omega)).trans t1) (by omega) (by omega) hroom5.xn d
        rw [u2] at hms5
        have e49 : ∀ τe, (∀ dm, bI (rn L xs (dm + 6) 303 0 [.ref 123, .int 20] [] τ5) (fun a5 s4 => cond (pv_c1 .ne a5) (rn L xs (dm + 7) 319 49 [.ref 123, .int (i32 A0), .int (i32 V), .int (i32 (V + 1 : Nat))] [] s4) (some (.inl none, s4))) X0 = some (.inl none, τe)) → mS L xs τ τe := by
          intro τe he
          refine e22 _ (fun dm => ?_)
          rw [bI_ok (h306b dm), bI_ok rfl, u3, show pv_c1 .gt (0 : Int32) = false from rfl, cond_false]
          exact he dm
        by_cases q4 : μ (A + 1 + 1 + 1) = 20
        · rw [if_pos q4] at hms5
          have hms5 : rn L xs (d + 4) 112 0 [.ref 62, .int 256] [] σ5 = _ := hms5
          rw [bV_ok hms5]
          have hlt5 := l2.lt (by omega)
          have hn6 : NV (V + 1) (V :: sc) (rd σ5v 62 5) (rd σ5v 62 6) σ5v := by
            have e5 : rd σ5v 62 5 = i32 V := by rw [← hσ5v, cVar_oth (by omega) (by omega) (by omega), wr_self]
            have e6 : rd σ5v 62 6 = rd (wr (wr σ2 62 3 (i32 (A + 1 + 1 : Nat))) 62 5 (i32 V)) 62 6 := by rw [← hσ5v, cVar_oth (by omega) (by omega) (by omega)]
            rw [e5, e6]; exact l3
          obtain ⟨S2, m1, ⟨mS1, mS2⟩, m2⟩ := l2.opn (L := L) (xs := xs) (v := V + 1) (σ' := wr σ5v 62 3 (i32 (A + 1 + 1 + 1 + 1 : Nat))) (τ' := wr τ5 123 17 (i32 (A + 1 + 1 + 1 + 1 : Nat))) (A' := A + 1 + 1 + 1 + 1) (n' := n) (Nat.le_refl _) hlt5 (agC.refl.wr rfl) (agM.refl.wr rfl) (by rw [wr_self]) (by rw [wr_self]) (by rw [rd_wr, if_neg (by omega)]; exact t3) (by rw [rd_wr, if_neg (by omega)]; exact t4) (by rw [rd_wr, if_neg (by omega)]; exact t5) (by rw [rd_wr, if_neg (by omega)]; exact t6) (by omega) (by rw [rd_wr, if_neg (by omega)]; exact t7) hn6 (by rw [l4.x144]; exact j2.v0 f2 (by omega))
          have hold6 : OLD n r H P σ5v τ5 (wr (wr σ5v 62 3 (i32 (A + 1 + 1 + 1 + 1 : Nat))) 62 5 (i32 (V + 1 : Nat))) (mOpen (wr τ5 123 17 (i32 (A + 1 + 1 + 1 + 1 : Nat))) (V + 1) (V :: sc).length S2) := OLD.opn mS1 mS2 ((OLD.refl.wrC (Or.inl rfl)).wrM (by omega))
          have hmS : mS L xs τ (mPush (mPush (mOpen (wr τ5 123 17 (i32 (A + 1 + 1 + 1 + 1 : Nat))) (V + 1) (V :: sc).length S2) n 29 (i32 A0) (i32 V)) (n + 1) 1 0 0) := by
            refine e49 _ (fun dm => ?_)
            have ht := l2.take (L := L) (xs := xs) (x := 20) (k := 20) rfl (by omega) (dm + 4)
            rw [if_pos q4] at ht
            have h18 : rd (mOpen (wr τ5 123 17 (i32 (A + 1 + 1 + 1 + 1 : Nat))) (V + 1) (V :: sc).length S2) 123 18 = i32 n := by rw [mOpen_oth (by omega) (by omega), rd_wr, if_neg (by omega)]; exact t6
            rw [bI_ok ht, show pv_c1 .ne (1 : Int32) = true from rfl, cond_true, e319_49 (dm + 6), bV_ok (m1 (dm + 5)), bV_ok (mpush_ok (n := n) h18 (by omega) (dm + 5) _ _ _), bV_ok (mpush_ok (n := n + 1) mPush_come (by omega) (dm + 5) _ _ _)]
          refine OUTI.pre hmS ?_
          have h7 := (m2.push (by omega) 29 (i32 A0) (i32 V)).push (by omega) 1 0 0
          have hold7 : OLD n r H P σ5v τ5 (wr (wr σ5v 62 3 (i32 (A + 1 + 1 + 1 + 1 : Nat))) 62 5 (i32 (V + 1 : Nat))) (mPush (mPush (mOpen (wr τ5 123 17 (i32 (A + 1 + 1 + 1 + 1 : Nat))) (V + 1) (V :: sc).length S2) n 29 (i32 A0) (i32 V)) (n + 1) 1 0 0) := (hold6.push (by omega)).push (by omega)
          have i2 : IT (mPush (mPush (mOpen (wr τ5 123 17 (i32 (A + 1 + 1 + 1 + 1 : Nat))) (V + 1) (V :: sc).length S2) n 29 (i32 A0) (i32 V)) (n + 1) 1 0 0) (n + 1) 1 0 0 := IT.at rfl
          have i1 : IT (mPush (mPush (mOpen (wr τ5 123 17 (i32 (A + 1 + 1 + 1 + 1 : Nat))) (V + 1) (V :: sc).length S2) n 29 (i32 A0) (i32 V)) (n + 1) 1 0 0) n 29 (i32 A0) (i32 V) := (IT.at rfl).push (by omega)
          generalize mPush (mPush (mOpen (wr τ5 123 17 (i32 (A + 1 + 1 + 1 + 1 : Nat))) (V + 1) (V :: sc).length S2) n 29 (i32 A0) (i32 V)) (n + 1) 1 0 0 = τ7 at h7 hold7 i1 i2
          -- the real state
          obtain ⟨_, _, _, _, _, _, ⟨x1', x2', x3', x4', x5', x6', x7', x8', x9', x10', x11', x12'⟩, _⟩ := h7.all
          have hss := hsame (i32 (A + 1 + 1 + 1 + 1 : Nat)) (i32 (V + 1 : Nat))
          have hs7 : ST K1 K2 m μ g fc ((V + 1) :: V :: sc) fs D H (n + 1 + 1) (A + 1 + 1 + 1 + 1) P r (wr (wr σ5 62 3 (i32 (A + 1 + 1 + 1 + 1 : Nat))) 62 5 (i32 (V + 1 : Nat))) τ7 := h7.ag ⟨fun j i _ => hss j i, hsame2⟩ agM.refl (Nat.le_refl _) x8' x9' x10' x11' ((hss _ _).trans x1') x2' ((hss _ _).trans x3') x4' ((hss _ _).trans x5') x6' x7'
          have holdr : OLD n r H P σ5v τ5 (wr (wr σ5 62 3 (i32 (A + 1 + 1 + 1 + 1 : Nat))) 62 5 (i32 (V + 1 : Nat))) τ7 := by
            obtain ⟨h1, h2, h3, h4, h5, h6, h7, h8, h9⟩ := hold7
            refine ⟨h1, h2, fun i hi => (hss _ _).trans (h3 i hi), fun p hp j y1 y2 => (hss _ _).trans (h4 p hp j y1 y2), fun v hv => ?_, by rw [hss]; exact h6, fun j hj i => ?_, h8.trans (P1 := P) (OLX.of (fun j i _ => hss j i) (fun _ _ _ => rfl)) (Nat.le_refl _), MB.trans (E' := []) h9 (MB.same (fun j i _ => hss j i))⟩
            · obtain ⟨z1, z2, z3, z4⟩ := h5 v hv
              refine ⟨?_, (hss _ _).trans z2, (hss _ _).trans z3, (hss _ _).trans z4⟩
              rw [← z1]
              show σ5.2.1 29 v = σ5v.2.1 29 v
              rw [hsame2]
            · rw [← h7 j hj i]
              show σ5.2.1 j i = σ5v.2.1 j i
              rw [hsame2]
          have w5 : rd (wr (wr σ5 62 3 (i32 (A + 1 + 1 + 1 + 1 : Nat))) 62 5 (i32 (V + 1 : Nat))) 62 5 = i32 (V + 1 : Nat) := wr_self _ _ _ _
          generalize wr (wr σ5 62 3 (i32 (A + 1 + 1 + 1 + 1 : Nat))) 62 5 (i32 (V + 1 : Nat)) = σ7 at hs7 holdr w5
          have hws1 := wch_mono μ (show A ≤ A + 1 by omega)
          have hws2 := wch_mono μ (show A + 1 ≤ A + 1 + 1 by omega)
          refine OUTI.bI (hE ((V + 1) :: V :: sc) fs D H (n + 1) (A + 1 + 1 + 1 + 1) P r σ7 τ7 (d + 4) hs7 i2.1 (by omega) (by omega) (by omega)) (fun a σ8 τ8 hQ => ?_)
          obtain ⟨A2, P2, y1, y2, y3, y4, y5, y6⟩ := hQ
          subst y1
          have hold25 : OLDe [V + 1] n r H P σ2 τ2 σ5v τ5 := OLDe.trans (E := []) hold3 l4 (Nat.le_refl _) (Nat.le_refl _) (Nat.le_refl _) (Nat.le_refl _)
          have hold28 : OLDe [V + 1] n r H P σ2 τ2 σ8 τ8 := OLDe.trans (E' := []) hold25 (holdr.trans (y6.mono (by omega) (Nat.le_refl _) (Nat.le_refl _) (Nat.le_refl _)) (Nat.le_refl _) (Nat.le_refl _) (Nat.le_refl _) (Nat.le_refl _)) (Nat.le_refl _) (Nat.le_refl _) (Nat.le_refl _) (Nat.le_refl _)
          have hold58 : OLD n r H P σ5v τ5 σ8 τ8 := holdr.trans (y6.mono (by omega) (Nat.le_refl _) (Nat.le_refl _) (Nat.le_refl _)) (Nat.le_refl _) (Nat.le_refl _) (Nat.le_refl _) (Nat.le_refl _)
          have hn8 := hn6.old hold58
          have e6v : rd σ5v 62 6 = rd σ 62 6 := by rw [← hσ5v, cVar_oth (by omega) (by omega) (by omega), rd_wr, if_neg (by omega), rd_wr, if_neg (by omega)]; exact hc6
          exact hK V A2 P2 σ8 τ8 (by have := y3.1.1; omega) y3.1.1 y3.2.1 y2 (IT.old y6 (by omega) i1) y3 y4 y5 (OLDe.trans (E := []) holdp (OLDe.trans (E := [V]) k4 hold28 (Nat.le_refl _) (Nat.le_refl _) (Nat.le_refl _) (Nat.le_refl _)) (Nat.le_refl _) (Nat.le_refl _) (Nat.le_refl _) (Nat.le_refl _)) (k3.old hold28) (hn8.2.2.2.1.trans e6v) ((hs7.s5 y2).trans w5) hn8.1
        · rw [if_neg q4] at hms5
          have hms5 : rn L xs (d + 4) 112 0 [.ref 62, .int 256] [] σ5 = _ := hms5
          rw [bV_ex hms5]
          refine Or.inr (FLT.raw (τ1 := τ5) hroom5 rfl ?_ (by decide))
          rw [(hLV5.2.1 _ t8).2.1]
          refine e49 _ (fun dm => ?_)
          have ht := l2.take (L := L) (xs := xs) (x := 20) (k := 20) rfl (by omega) (dm + 4)
          rw [if_neg q4] at ht
          rw [bI_ok ht, show pv_c1 .ne (0 : Int32) = false from rfl, cond_false]
      · rw [bI_ex (hrun2.trans (if_neg q3))]
        have hq6 := vck_le (σ := wr σ2 62 3 (i32 (A + 1 + 1 : Nat))) (a := μ (A + 1 + 1)) (A := A + 1 + 1) (g := g) (fc := fc) (l := V :: sc)
        refine Or.inr (FLT.raw (τ1 := mOpen (wr τ2 123 17 (i32 (A + 1 + 1 : Nat))) V sc.length S) hroom3 rfl ?_ (i32_ne0 q3 hq6))
        have e13 : rd (wr σ2 62 3 (i32 (A + 1 + 1 : Nat))) 13 (A + 1 + 1) = rd (mOpen (wr τ2 123 17 (i32 (A + 1 + 1 : Nat))) V sc.length S) 127 (A + 1 + 1) := by
          rw [mOpen_oth (by omega) (by omega), wr_nek (by omega), wr_nek (by omega)]; exact (p1.2.1 _ (by omega)).2.1
        rw [e13]
        refine e22 _ (fun dm => ?_)
        rw [bI_ok ((f4 (dm + 3)).trans (if_neg q3)), bI_ok rfl, mFlt_5, (c1_nz q3 hq6).2, cond_true]
    · rw [if_neg q2] at hmsg
      rw [bV_ex hmsg]
      refine Or.inr (FLT.mk' (τ1 := τ2) k2 r8 (k := 2) (by decide) rfl ?_)
      refine e319 _ (fun dm => ?_)
      have ht := k2.take (L := L) (xs := xs) (x := 23) (k := 23) rfl (by omega) (dm + 4)
      rw [if_neg q2] at ht
      rw [bI_ok ht, show pv_c1 .ne (0 : Int32) = false from rfl, cond_false]
  · rw [bI_ex ((g3 d).trans (if_neg q))]
    have hq6 := vck_le (σ := σ) (a := μ A) (A := A) (g := g) (fc := fc) (l := sc)
    refine Or.inr (FLT.mk' (τ1 := τp) hpop s8 (i32_ne0 q hq6) rfl ?_)
    refine hms _ (fun dm => ?_)
    rw [e319_0 (dm + 6), bI_ok ((g4 (dm + 4)).trans (if_neg q)), mFlt_5, (c1_nz q hq6).2, cond_true, e319_21]
end CASE

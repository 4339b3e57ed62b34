/-! CONSTRUCTORS: a small machine over descriptions of cells -/
abbrev cD : Type := Nat × List (Nat × Value)
def cdDef (c i : Nat) : Value := cond (Nat.beq c 0) (.int 0) (cond (Nat.beq c 1) (.long 0) (cond (Nat.beq c 2) .null (defaultValue (ftP (c - 10) i))))
def cdFind : List (Nat × Value) → Nat → Option Value
  | [], _ => none
  | q :: r, i => cond (Nat.beq i q.1) (some q.2) (cdFind r i)
def cdV (d : cD) (i : Nat) : Value := (cdFind d.2 i).getD (cdDef d.1 i)
def cdSet (d : cD) (i : Nat) (v : Value) : cD := (d.1, (i, v) :: d.2)
def cL : List cD → Nat → cD
  | [], _ => (0, [])
  | a :: _, 0 => a
  | _ :: r, k + 1 => cL r k
def cU : List cD → Nat → cD → List cD
  | [], _, _ => []
  | _ :: r, 0, d => d :: r
  | a :: r, k + 1, d => a :: cU r k d
def sN : Nat → Nat
  | 0 => 8648370
  | n + 1 => sN n - lenN n
def sNok : Bool := (List.range 239).all fun n => Nat.ble (lenN n) (sN n) && Nat.ble (lenN n) 10000000
theorem sNok_ok : sNok = true := by decide +kernel
def cInv (C : List cD) (h : pvH) : Prop := h.2 = (C.length, 147880 - C.length, sN C.length) ∧ ∀ k, k < C.length → h.1 k = (tagN k, lenN k, cdV (cL C k))
theorem cU_len : ∀ (C : List cD) (k : Nat) (d : cD), (cU C k d).length = C.length := by
  intro C
  induction C with
  | nil => intro k d; rfl
  | cons a r ih =>
    intro k d
    cases k with
    | zero => rfl
    | succ k => show (cU r k d).length + 1 = _; rw [ih]; rfl
theorem cU_self : ∀ (C : List cD) (k : Nat) (d : cD), k < C.length → cL (cU C k d) k = d := by
  intro C
  induction C with
  | nil => intro k d h; exact absurd h (Nat.not_lt_zero _)
  | cons a r ih =>
    intro k d h
    cases k with
    | zero => rfl
    | succ k => exact ih k d (Nat.lt_of_succ_lt_succ h)
theorem cU_ne : ∀ (C : List cD) (k : Nat) (d : cD) (j : Nat), j ≠ k → cL (cU C k d) j = cL C j := by
  intro C
  induction C with
  | nil => intro k d j h; rfl
  | cons a r ih =>
    intro k d j h
    cases k with
    | zero =>
      cases j with
      | zero => exact absurd rfl h
      | succ j => rfl
    | succ k =>
      cases j with
      | zero => rfl
      | succ j => exact ih k d j (fun e => h (by rw [e]))
theorem cL_app : ∀ (C : List cD) (d : cD) (k : Nat), cL (C ++ [d]) k = if k = C.length then d else if k < C.length then cL C k else (0, []) := by
  intro C
  induction C with
  | nil =>
    intro d k
    cases k with
    | zero => rfl
    | succ k => cases k <;> rfl
  | cons a r ih =>
    intro d k
    cases k with
    | zero => rfl
    | succ k =>
      show cL (r ++ [d]) k = _
      rw [ih]
      show (if k = r.length then d else if k < r.length then cL r k else (0, [])) = if k + 1 = r.length + 1 then d else if k + 1 < r.length + 1 then cL r k else (0, [])
      simp
theorem cdV_set (d : cD) (i : Nat) (v : Value) : cdV (cdSet d i v) = va_up (cdV d) i v := by
  funext j
  show (cond (Nat.beq j i) (some v) (cdFind d.2 j)).getD (cdDef d.1 j) = if j = i then v else (cdFind d.2 j).getD (cdDef d.1 j)
  cases e : Nat.beq j i with
  | true => rw [if_pos (Nat.eq_of_beq_eq_true e)]; rfl
  | false =>
    have : j ≠ i := fun q => by rw [q, Nat.beq_refl] at e; cases e
    rw [if_neg this]
    rfl
theorem cInv.new {C : List cD} {h : pvH} (hI : cInv C h) (hn : C.length < 239) {d : cD} {F : Nat → Value} (hF : F = cdV d) : cInv (C ++ [d]) (pv_new h (tagN C.length, lenN C.length, F)) := by
  obtain ⟨h1, h2⟩ := hI
  refine ⟨?_, fun k hk => ?_⟩
  · show (h.2.1 + 1, h.2.2.1 - 1, h.2.2.2 - lenN C.length) = _
    rw [h1, List.length_append]
    show (C.length + 1, 147880 - C.length - 1, sN C.length - lenN C.length) = (C.length + 1, 147880 - (C.length + 1), sN (C.length + 1))
    rw [Nat.sub_sub]
    rfl
  · rw [List.length_append] at hk
    have hk : k < C.length + 1 := hk
    show va_up h.1 h.2.1 _ k = _
    rw [cL_app]
    by_cases e : k = C.length
    · have e2 : h.2.1 = k := by rw [h1, e]
      rw [if_pos e, e2, va_up_self, e, hF]
    · have e2 : k ≠ h.2.1 := by rw [h1]; exact e
      rw [if_neg e, va_up_ne _ _ e2, if_pos (by omega), h2 k (by omega)]
theorem cInv.put {C : List cD} {h : pvH} (hI : cInv C h) {k : Nat} (hk : k < C.length) {i : Nat} {v : Value} : cInv (cU C k (cdSet (cL C k) i v)) (pv_put h k (tagN k, lenN k, va_up (cdV (cL C k)) i v)) := by
  obtain ⟨h1, h2⟩ := hI
  refine ⟨?_, fun j hj => ?_⟩
  · rw [cU_len]; exact h1
  · rw [cU_len] at hj
    show va_up h.1 k _ j = _
    by_cases e : j = k
    · subst e
      rw [va_up_self, cU_self C j _ hj, cdV_set]
    · rw [va_up_ne _ _ e, cU_ne _ _ _ _ e, h2 j hj]
def cI (v : Option Value) (K : Int32 → Option (List cD)) : Option (List cD) := match v with | some (.int x) => K x | _ => none
def cR (v : Option Value) (K : Value → Option (List cD)) : Option (List cD) := match v with | some v => cond (pv_isR v) (K v) none | _ => none
def cP1 (st : List Value) (K : Value → List Value → Option (List cD)) : Option (List cD) := match st with | v :: r => K v r | _ => none
def cPI (st : List Value) (K : Int32 → List Value → Option (List cD)) : Option (List cD) := match st with | .int x :: r => K x r | _ => none
def cPL (st : List Value) (K : Int64 → List Value → Option (List cD)) : Option (List cD) := match st with | .long x :: r => K x r | _ => none
def cPR (st : List Value) (K : Nat → List Value → Option (List cD)) : Option (List cD) := match st with | .ref x :: r => K x r | _ => none
def cPF (st : List Value) (K : UInt32 → List Value → Option (List cD)) : Option (List cD) := match st with | .float x :: r => K x r | _ => none
def cD' (d : Nat) (K : Nat → Option (List cD)) : Option (List cD) := match d with | 0 => none | d + 1 => K d
def cS (v : Option (List cD)) (K : List cD → Option (List cD)) : Option (List cD) := match v with | some v => K v | _ => none
def cV (v : Option Value) : Option Nat := match v with | some (.ref k) => some k | _ => none
def fitB (t : FieldType) (v : Value) : Bool := pv_fit t v
def aCode (a : ArrayType) : Option (Nat × Nat) := match a with
  | .int => some (0, 0)
  | .byte => some (1, 0)
  | .long => some (2, 1)
  | .boolean => some (3, 0)
  | _ => none
def cA (a : Option (Nat × Nat)) (K : Nat → Nat → Option (List cD)) : Option (List cD) := match a with | some (t, c) => K t c | _ => none
def cCall (E : Nat → Nat → Nat → pvL → List Value → List cD → Option (List cD)) (d M pc M' n : Nat) (ls : pvL) (st : List Value) (C : List cD) : Option (List cD) :=
  cond (Nat.ble n st.length && (Nat.ble ((st.drop n).map Value.category).sum 24 && Nat.ble ((st.take n).map Value.category).sum (miP M').2.2.1))
    (cD' d (fun d' => cS (E d' M' 0 (lv_args 0 (st.take n).reverse) [] C) (fun C2 => E (d' + 1) M (pc + 3) ls (st.drop n) C2))) none
def cG (E : Nat → Nat → Nat → pvL → List Value → List cD → Option (List cD)) (d M pc : Nat) (i : Instr) (r1 r2 r3 : Nat) (ls : pvL) (st : List Value) (C : List cD) : Option (List cD) := match i with
  | .aload_n k => cR (pv_get ls k) (fun v => E d M (pc + 1) ls (v :: st) C)
  | .aload k => cR (pv_get ls k) (fun v => E d M (pc + 2) ls (v :: st) C)
  | .iload_n k => cI (pv_get ls k) (fun x => E d M (pc + 1) ls (.int x :: st) C)
  | .istore_n k => cPI st (fun x r => cond (Nat.blt k (miP M).2.2.1) (E d M (pc + 1) (pv_set1 ls k (.int x)) r C) none)
  | .iinc k n => cI (pv_get ls k) (fun x => cond (Nat.blt k (miP M).2.2.1) (E d M (pc + 3) (pv_set1 ls k (.int (x + Int32.ofInt n))) st C) none)
  | .iconst n => E d M (pc + 1) ls (.int (Int32.ofInt n) :: st) C
  | .bipush n => E d M (pc + 2) ls (.int (Int8.ofInt n).toInt32 :: st) C
  | .sipush n => E d M (pc + 3) ls (.int (Int16.ofInt n).toInt32 :: st) C
  | .ldc _ => cond (Nat.beq r3 0) (E d M (pc + 2) ls (.int (Int32.ofNat r1) :: st) C) (E d M (pc + 2) ls (.float (UInt32.ofNat r1) :: st) C)
  | .ldc_w _ => cond (Nat.beq r3 0) (E d M (pc + 3) ls (.int (Int32.ofNat r1) :: st) C) none
  | .iadd => cPI st (fun y r => cPI r (fun x r => E d M (pc + 1) ls (.int (x + y) :: r) C))
  | .i2l => cPI st (fun x r => E d M (pc + 1) ls (.long x.toInt64 :: r) C)
  | .lor => cPL st (fun y r => cPL r (fun x r => E d M (pc + 1) ls (.long (x ||| y) :: r) C))
  | .lshl => cPI st (fun y r => cPL r (fun x r => E d M (pc + 1) ls (.long (x <<< (y.toInt64 &&& 63)) :: r) C))
  | .dup => cP1 st (fun v r => cond (Nat.beq v.category 1) (E d M (pc + 1) ls (v :: v :: r) C) none)
  | .if_icmp c _ => cPI st (fun y r => cPI r (fun x r => cond (pv_c2 c x y) (E d M r1 ls r C) (E d M (pc + 3) ls r C)))
  | .goto _ => E d M r1 ls st C
  | .getfield _ => cPR st (fun k r => cond (Nat.blt k C.length && (Nat.beq (tagN k) (10 + r1) && Nat.blt r2 (lenN k))) (E d M (pc + 3) ls (cdV (cL C k) r2 :: r) C) none)
  | .putfield _ => cP1 st (fun v r => cPR r (fun k r => cond (Nat.blt k C.length && (Nat.beq (tagN k) (10 + r1) && (Nat.blt r2 (lenN k) && (fitB (ftP r1 r2) v && (!(finP r1 r2) || (miP M).1))))) (E d M (pc + 3) ls r (cU C k (cdSet (cL C k) r2 v))) none))
  | .laload => cPI st (fun i r => cPR r (fun k r => cond (Nat.blt k C.length && (Nat.beq (tagN k) 2 && pv_in i (lenN k))) (E d M (pc + 1) ls (cdV (cL C k) (ix i) :: r) C) none))
  | .aaload => cPI st (fun i r => cPR r (fun k r => cond (Nat.blt k C.length && (Nat.beq (tagN k) 4 && pv_in i (lenN k))) (E d M (pc + 1) ls (cdV (cL C k) (ix i) :: r) C) none))
  | .lastore => cPL st (fun x r => cPI r (fun i r => cPR r (fun k r => cond (Nat.blt k C.length && (Nat.beq (tagN k) 2 && pv_in i (lenN k))) (E d M (pc + 1) ls r (cU C k (cdSet (cL C k) (ix i) (.long x)))) none)))
  | .iastore => cPI st (fun x r => cPI r (fun i r => cPR r (fun k r => cond (Nat.blt k C.length && (Nat.beq (tagN k) 0 && pv_in i (lenN k))) (E d M (pc + 1) ls r (cU C k (cdSet (cL C k) (ix i) (.int x)))) none)))
  | .aastore => cPF st (fun x r => cPI r (fun i r => cPR r (fun k r => cond (Nat.blt k C.length && (Nat.beq (tagN k) 4 && (pv_in i (lenN k) && Nat.blt x.toNat 23))) (E d M (pc + 1) ls r (cU C k (cdSet (cL C k) (ix i) (.float x)))) none)))
  | .new _ => cond (!(Nat.beq r3 4) && (Nat.blt C.length 239 && (Nat.beq (tagN C.length) (10 + r1) && Nat.beq (lenN C.length) (nfP r1)))) (E d M (pc + 3) ls (.ref C.length :: st) (C ++ [(10 + r1, [])])) none
  | .newarray a => cA (aCode a) (fun t c => cPI st (fun n r => cond (!(decide (n < 0)) && (Nat.blt C.length 239 && (Nat.beq (tagN C.length) t && Nat.beq (lenN C.length) (ix n)))) (E d M (pc + 2) ls (.ref C.length :: r) (C ++ [(c, [])])) none))
  | .anewarray _ => cPI st (fun n r => cond (!(decide (n < 0)) && (Nat.blt C.length 239 && (Nat.beq (tagN C.length) 4 && Nat.beq (lenN C.length) (ix n)))) (E d M (pc + 3) ls (.ref C.length :: r) (C ++ [(2, [])])) none)
  | .invokespecial _ => cond (Nat.beq r3 2) (cPR st (fun _ r => cond (Nat.ble ((r.map Value.category).sum) 24) (E d M (pc + 3) ls r C) none)) (cond (pv_recvI st[r2 - 1]? && Nat.ble 1 r2) (cCall E d M pc r1 r2 ls st C) none)
  | .invokevirtual _ => cond (Nat.beq r1 431 && (Nat.beq r2 1 && Nat.beq r3 90)) (cPF st (fun j r => cond (Nat.blt j.toNat 23 && Nat.ble ((r.map Value.category).sum) 24) (cD' d (fun d' => cD' d' (fun _ => E d M (pc + 3) ls (.int (Int32.ofNat (slen j.toNat)) :: r) C))) none))
      (cond (Nat.beq r1 433 && (Nat.beq r2 2 && Nat.beq r3 90)) (cPI st (fun i r => cPF r (fun j r => cond (Nat.blt j.toNat 23 && (Nat.ble ((r.map Value.category).sum) 24 && (pv_in i (slen j.toNat) && Nat.ble 4 d))) (E d M (pc + 3) ls (.int (schr j.toNat (ix i)) :: r) C) none)))
      (cond (Nat.ble 1 r2 && (match cV st[r2 - 1]? with | some k => Nat.blt k C.length && Nat.beq (tagN k) (10 + r3) | none => false)) (cCall E d M pc r1 r2 ls st C) none))
  | .return_ => match st, (miP M).2.1 with | [], none => some C | _, _ => none
  | _ => none
def cx : Nat → Nat → Nat → Nat → pvL → List Value → List cD → Option (List cD)
  | 0, _, _, _, _, _, _ => none
  | n + 1, d, M, pc, ls, st, C => match insP M pc with
    | none => none
    | some (i, _, r1, r2, r3) => cG (cx n) d M pc i r1 r2 r3 ls st C

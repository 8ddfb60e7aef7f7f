/-! ===== my code against the bytes ===== -/
def ck_in3 (e : Nat × Nat × Nat) : List (Nat × Nat × Nat) → Bool
  | [] => false
  | a :: l => (Nat.beq e.1 a.1 && Nat.beq e.2.1 a.2.1 && Nat.beq e.2.2 a.2.2) || ck_in3 e l
theorem ck_in3_mem {e : Nat × Nat × Nat} : ∀ {l : List (Nat × Nat × Nat)}, ck_in3 e l = true → e ∈ l
  | [], h => by cases h
  | a :: l, h => by
    rw [ck_in3, Bool.or_eq_true, Bool.and_eq_true, Bool.and_eq_true] at h
    rcases h with ⟨⟨h1, h2⟩, h3⟩ | h
    · have e1 := Nat.eq_of_beq_eq_true h1
      have e2 := Nat.eq_of_beq_eq_true h2
      have e3 := Nat.eq_of_beq_eq_true h3
      obtain ⟨a1, a2, a3⟩ := a
      obtain ⟨b1, b2, b3⟩ := e
      dsimp only at e1 e2 e3
      subst e1 e2 e3
      exact List.mem_cons_self
    · exact List.mem_cons_of_mem _ (ck_in3_mem h)
def ck_inI (e : Nat × Nat × Int) : List (Nat × Nat × Int) → Bool
  | [] => false
  | a :: l => (Nat.beq e.1 a.1 && Nat.beq e.2.1 a.2.1 && decide (e.2.2 = a.2.2)) || ck_inI e l
theorem ck_inI_mem {e : Nat × Nat × Int} : ∀ {l : List (Nat × Nat × Int)}, ck_inI e l = true → e ∈ l
  | [], h => by cases h
  | a :: l, h => by
    rw [ck_inI, Bool.or_eq_true, Bool.and_eq_true, Bool.and_eq_true] at h
    rcases h with ⟨⟨h1, h2⟩, h3⟩ | h
    · have e1 := Nat.eq_of_beq_eq_true h1
      have e2 := Nat.eq_of_beq_eq_true h2
      have e3 := of_decide_eq_true h3
      obtain ⟨a1, a2, a3⟩ := a
      obtain ⟨b1, b2, b3⟩ := e
      dsimp only at e1 e2 e3
      subst e1 e2 e3
      exact List.mem_cons_self
    · exact List.mem_cons_of_mem _ (ck_inI_mem h)
def ck_n (f : Fin 4 → Instr) (o : Instr) (len k : Nat) : Bool := Nat.beq len 1 && ((Nat.beq k 0 && decide (o = f 0)) || (Nat.beq k 1 && decide (o = f 1)) || (Nat.beq k 2 && decide (o = f 2)) || (Nat.beq k 3 && decide (o = f 3)))
theorem ck_n_spec {f : Fin 4 → Instr} {o : Instr} {len k : Nat} (h : ck_n f o len k = true) : ∃ n : Fin 4, (n : Nat) = k ∧ o = f n ∧ len = 1 := by
  simp only [ck_n, Bool.and_eq_true, Bool.or_eq_true, decide_eq_true_eq] at h
  obtain ⟨h1, h2⟩ := h
  have h1 := Nat.eq_of_beq_eq_true h1
  rcases h2 with ((⟨a, b⟩ | ⟨a, b⟩) | ⟨a, b⟩) | ⟨a, b⟩
  · exact ⟨0, (Nat.eq_of_beq_eq_true a).symm, b, h1⟩
  · exact ⟨1, (Nat.eq_of_beq_eq_true a).symm, b, h1⟩
  · exact ⟨2, (Nat.eq_of_beq_eq_true a).symm, b, h1⟩
  · exact ⟨3, (Nat.eq_of_beq_eq_true a).symm, b, h1⟩
def ck_t (P : List Nat) (pc : Nat) (off t : Int) : Bool := match ab_nth P t.toNat with
  | some b => decide ((pc : Int) + off = (b : Int))
  | none => false
def ck_ps (P : List Nat) (pc : Nat) : List (Int × Int) → List (Int × Int) → Bool
  | [], [] => true
  | (a, off) :: l, (b, t) :: r => decide (a = b) && decide (-2147483648 ≤ a) && decide (a < 2147483648) && ck_t P pc off t && ck_ps P pc l r
  | _, _ => false
def ck_ts (P : List Nat) (pc : Nat) : Int → List Int → List (Int × Int) → Bool
  | _, [], [] => true
  | lo, off :: l, (b, t) :: r => decide (lo = b) && decide (-2147483648 ≤ lo) && decide (lo < 2147483648) && ck_t P pc off t && ck_ts P pc (lo + 1) l r
  | _, _, _ => false
def ck_f (w : Nat) (ini : Bool) (f : Nat) : Bool := !(sd_ff f) || (ini && Nat.beq w (f / 100))
def ck_ref : FieldType → Bool
  | .object _ => true
  | .array _ => true
  | _ => false
def ck_rr : Option FieldType → Bool
  | some t => ck_ref t
  | none => false
set_option maxHeartbeats 4000000 in
def ck1 (w nl : Nat) (rt : Option FieldType) (ini : Bool) (P : List Nat) (pc : Nat) (o : Instr) (len : Nat) (i : Instr) : Bool :=
  match i with
  | .iload k => (decide (o = .iload k) && Nat.beq len 2) || ck_n .iload_n o len k
  | .lload k => (decide (o = .lload k) && Nat.beq len 2) || ck_n .lload_n o len k
  | .aload k => (decide (o = .aload k) && Nat.beq len 2) || ck_n .aload_n o len k
  | .istore k => ((decide (o = .istore k) && Nat.beq len 2) || ck_n .istore_n o len k) && Nat.ble (k + 1) nl
  | .lstore k => ((decide (o = .lstore k) && Nat.beq len 2) || ck_n .lstore_n o len k) && Nat.ble (k + 2) nl
  | .astore k => ((decide (o = .astore k) && Nat.beq len 2) || ck_n .astore_n o len k) && Nat.ble (k + 1) nl
  | .iinc k n => decide (o = .iinc k n) && Nat.beq len 3 && Nat.ble (k + 1) nl
  | .iconst n => match o with
    | .iconst a => decide (a = n) && Nat.beq len 1
    | .bipush a => decide ((Int8.ofInt a).toInt32 = Int32.ofInt n) && Nat.beq len 2
    | .sipush a => decide ((Int16.ofInt a).toInt32 = Int32.ofInt n) && Nat.beq len 3
    | .ldc x => ck_inI (w, x, n) ln_KI_l && Nat.beq len 2
    | .ldc_w x => ck_inI (w, x, n) ln_KI_l && Nat.beq len 3
    | .getstatic x => decide ((w, x) ∈ ln_Z_l) && decide (n = 1) && Nat.beq len 3
    | _ => false
  | .goto_w n => match o with
    | .lconst a => decide (Int64.ofNat a.val = Int64.ofInt n) && Nat.beq len 1
    | .ldc2_w x => ck_inI (w, x, n) ln_KL_l && Nat.beq len 3
    | _ => false
  | .getstatic k => match o with
    | .getstatic x => ck_in3 (w, x, k) ln_G_l && decide (k ∈ sd_sts) && Nat.beq len 3
    | .ldc x => ck_in3 (w, x, k) ln_R_l && Nat.beq len 2
    | .ldc_w x => ck_in3 (w, x, k) ln_R_l && Nat.beq len 3
    | _ => false
  | .ldc k => match o with
    | .getstatic x => ck_in3 (w, x, k) ln_G_l && Nat.beq k 33 && Nat.beq len 3
    | _ => false
  | .aconst_null => decide (o = .aconst_null) && Nat.beq len 1
  | .iadd => decide (o = .iadd) && Nat.beq len 1
  | .isub => decide (o = .isub) && Nat.beq len 1
  | .imul => decide (o = .imul) && Nat.beq len 1
  | .iand => decide (o = .iand) && Nat.beq len 1
  | .ior => decide (o = .ior) && Nat.beq len 1
  | .idiv => decide (o = .idiv) && Nat.beq len 1
  | .irem => decide (o = .irem) && Nat.beq len 1
  | .ineg => decide (o = .ineg) && Nat.beq len 1
  | .ishl => decide (o = .ishl) && Nat.beq len 1
  | .ishr => decide (o = .ishr) && Nat.beq len 1
  | .i2l => decide (o = .i2l) && Nat.beq len 1
  | .l2i => decide (o = .l2i) && Nat.beq len 1
  | .i2b => decide (o = .i2b) && Nat.beq len 1
  | .i2c => decide (o = .i2c) && Nat.beq len 1
  | .land => decide (o = .land) && Nat.beq len 1
  | .lor => decide (o = .lor) && Nat.beq len 1
  | .lshl => decide (o = .lshl) && Nat.beq len 1
  | .lshr => decide (o = .lshr) && Nat.beq len 1
  | .lushr => decide (o = .lushr) && Nat.beq len 1
  | .lcmp => decide (o = .lcmp) && Nat.beq len 1
  | .dup => decide (o = .dup) && Nat.beq len 1
  | .pop => decide (o = .pop) && Nat.beq len 1
  | .dup_x1 => decide (o = .dup_x1) && Nat.beq len 1
  | .dup2 => decide (o = .dup2) && Nat.beq len 1
  | .iaload => decide (o = .iaload) && Nat.beq len 1
  | .baload => decide (o = .baload) && Nat.beq len 1
  | .caload => decide (o = .caload) && Nat.beq len 1
  | .laload => decide (o = .laload) && Nat.beq len 1
  | .aaload => decide (o = .aaload) && Nat.beq len 1
  | .iastore => decide (o = .iastore) && Nat.beq len 1
  | .bastore => decide (o = .bastore) && Nat.beq len 1
  | .castore => decide (o = .castore) && Nat.beq len 1
  | .lastore => decide (o = .lastore) && Nat.beq len 1
  | .aastore => decide (o = .aastore) && Nat.beq len 1
  | .arraylength => decide (o = .arraylength) && Nat.beq len 1
  | .goto t => match o with
    | .goto off => ck_t P pc off t && Nat.beq len 3
    | _ => false
  | .ifCond c t => match o with
    | .ifCond c' off => decide (c' = c) && ck_t P pc off t && Nat.beq len 3
    | _ => false
  | .if_icmp c t => match o with
    | .if_icmp c' off => decide (c' = c) && ck_t P pc off t && Nat.beq len 3
    | _ => false
  | .if_acmp c t => match o with
    | .if_acmp c' off => decide (c' = c) && ck_t P pc off t && Nat.beq len 3
    | _ => false
  | .ifnull t => match o with
    | .ifnull off => ck_t P pc off t && Nat.beq len 3
    | _ => false
  | .ifnonnull t => match o with
    | .ifnonnull off => ck_t P pc off t && Nat.beq len 3
    | _ => false
  | .lookupswitch d ps => match o with
    | .lookupswitch d' ps' => ck_t P pc d' d && ck_ps P pc ps'.toList ps.toList && (ps'.toList.zip (ps'.toList.drop 1)).all (fun (a, next) => a.1 < next.1)
    | .tableswitch d' lo hi offs => ck_t P pc d' d && ck_ts P pc lo offs.toList ps.toList && decide (hi + 1 = lo + offs.size)
    | _ => false
  | .getfield f => match o with
    | .getfield x => ck_in3 (w, x, f) ln_F_l && Nat.beq len 3
    | _ => false
  | .dload f => match o with
    | .getfield x => ck_in3 (w, x, f) ln_F_l && Nat.beq len 3
    | _ => false
  | .fload f => match o with
    | .getfield x => ck_in3 (w, x, f) ln_F_l && Nat.beq len 3
    | _ => false
  | .putfield f => match o with
    | .putfield x => ck_in3 (w, x, f) ln_F_l && ck_f w ini f && decide (sd_fty f = .int) && Nat.beq len 3
    | _ => false
  | .dstore f => match o with
    | .putfield x => ck_in3 (w, x, f) ln_F_l && ck_f w ini f && decide (sd_fty f = .long) && Nat.beq len 3
    | _ => false
  | .fstore f => match o with
    | .putfield x => ck_in3 (w, x, f) ln_F_l && ck_f w ini f && ck_ref (sd_fty f) && Nat.beq len 3
    | _ => false
  | .ret f => match o with
    | .putfield x => ck_in3 (w, x, f) ln_F_l && ck_f w ini f && (decide (sd_fty f = .boolean) || decide (sd_fty f = .byte)) && Nat.beq len 3
    | _ => false
  | .new c => match o with
    | .new x => ck_in3 (w, x, c) ln_N_l && Nat.beq len 3
    | _ => false
  | .newarray t => decide (o = .newarray t) && Nat.beq len 2
  | .anewarray c => match o with
    | .anewarray x => ck_in3 (w, x, c) ln_A_l && Nat.beq len 3
    | _ => false
  | .checkcast c => match o with
    | .checkcast x => (ck_in3 (w, x, c) ln_C_l || (Nat.beq c 99 && Nat.beq w 10 && Nat.beq x 30)) && Nat.beq len 3
    | _ => false
  | .instanceof c => match o with
    | .instanceof x => ck_in3 (w, x, c) ln_C_l && Nat.beq len 3
    | _ => false
  | .invokestatic q => match o with
    | .invokestatic x => ck_in3 (w, x, q) ln_S_l && Nat.beq len 3
    | _ => false
  | .invokespecial q => match o with
    | .invokespecial x => (ck_in3 (w, x, q) ln_I_l || ck_in3 (w, x, q) ln_X_l) && Nat.beq len 3
    | _ => false
  | .invokevirtual q => match o with
    | .invokevirtual x => (ck_in3 (w, x, q) ln_V_l || ck_in3 (w, x, q) ln_U_l) && Nat.beq len 3
    | _ => false
  | .invokedynamic q => match o with
    | .invokespecial x => ck_in3 (w, x, q) ln_P_l && Nat.beq len 3
    | _ => false
  | .invokeinterface q1 q2 => match o with
    | .invokevirtual x => decide ((w, x, q1, q2) ∈ ln_D_l) && Nat.beq len 3
    | _ => false
  | .multianewarray q _ => match o with
    | .invokestatic x => ((Nat.beq q 105 && Nat.beq w 19 && Nat.beq x 150) || (Nat.beq q 912 && decide ((w, x) ∈ ln_Mn_l)) || (Nat.beq q 1012 && decide ((w, x) ∈ ln_Mx_l))) && Nat.beq len 3
    | .invokevirtual x => Nat.beq q 231 && Nat.beq w 10 && Nat.beq x 29 && Nat.beq len 3
    | _ => false
  | .ireturn => decide (o = .ireturn) && Nat.beq len 1 && decide (rt = some .int)
  | .freturn => decide (o = .ireturn) && Nat.beq len 1 && decide (rt = some .boolean)
  | .dreturn => decide (o = .ireturn) && Nat.beq len 1 && decide (rt = some .char)
  | .monitorenter => decide (o = .ireturn) && Nat.beq len 1 && decide (rt = some .byte)
  | .lreturn => decide (o = .lreturn) && Nat.beq len 1 && decide (rt = some .long)
  | .areturn => decide (o = .areturn) && Nat.beq len 1 && ck_rr rt
  | .return_ => decide (o = .return_) && Nat.beq len 1 && decide (rt = none)
  | .nop => true
  | _ => false
/-- nothing comes behind it -/
def ck_end : Instr → Bool
  | .goto _ => true
  | .lookupswitch _ _ => true
  | .ireturn => true
  | .freturn => true
  | .dreturn => true
  | .monitorenter => true
  | .lreturn => true
  | .areturn => true
  | .return_ => true
  | .nop => true
  | _ => false
def ck_hd : List Nat → Nat → Bool
  | [], _ => false
  | a :: _, b => Nat.beq a b
def ck_i (b : ByteArray) (w nl : Nat) (rt : Option FieldType) (ini : Bool) (P : List Nat) (pc : Nat) (ps : List Nat) (i : Instr) : Bool := match i with
  | .jsr _ => ck_hd ps pc
  | i => match decode b pc with
    | .ok (o, len) => ck1 w nl rt ini P pc o len i && (ck_end i || ck_hd ps (pc + len))
    | _ => false
def ck_go (b : ByteArray) (w nl : Nat) (rt : Option FieldType) (ini : Bool) (P : List Nat) : List Instr → List Nat → Bool
  | [], _ => true
  | _ :: _, [] => false
  | i :: is, pc :: ps => ck_i b w nl rt ini P pc ps i && ck_go b w nl rt ini P is ps
def ck (y : Nat) : Bool := ck_go (gB y) (gW y) (gG y).2 (gR y) (gN y) (gP y) (gG y).1 (gP y)
theorem ck_go_at {b : ByteArray} {w nl : Nat} {rt : Option FieldType} {ini : Bool} {P : List Nat} : ∀ {is : List Instr} {ps : List Nat}, ck_go b w nl rt ini P is ps = true → ∀ k i, ab_nth is k = some i → ∃ pc, ab_nth ps k = some pc ∧ ck_i b w nl rt ini P pc (ab_drop (k + 1) ps) i = true := by
  intro is
  induction is with
  | nil => intro ps h k i hk; cases hk
  | cons a is ih =>
    intro ps h k i hk
    cases ps with
    | nil => cases h
    | cons pc ps =>
      rw [ck_go, Bool.and_eq_true] at h
      cases k with
      | zero => cases hk; exact ⟨pc, rfl, by rw [ab_drop, ab_drop]; exact h.1⟩
      | succ k => exact ih h.2 k i hk
theorem ck_hd_drop : ∀ {k : Nat} {ps : List Nat} {x : Nat}, ck_hd (ab_drop k ps) x = true → ab_nth ps k = some x := by
  intro k
  induction k with
  | zero => intro ps x h; cases ps with
    | nil => cases h
    | cons a ps => exact congrArg some (Nat.eq_of_beq_eq_true h)
  | succ k ih => intro ps x h; cases ps with
    | nil => cases h
    | cons a ps => exact ih h

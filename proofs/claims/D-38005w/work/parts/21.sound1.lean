/-! one lemma a sort of instruction: the machine goes where rn_step goes; here those that leave the heap alone -/
def rn_len : Instr → Nat
  | .iload _ => 2 | .aload _ => 2 | .lload _ => 2 | .dload _ => 2 | .istore _ => 2 | .astore _ => 2 | .lstore _ => 2 | .dstore _ => 2 | .bipush _ => 2 | .ldc _ => 2 | .newarray _ => 2
  | .sipush _ => 3 | .ldc2_w _ => 3 | .iinc _ _ => 3 | .goto _ => 3 | .ifCond _ _ => 3 | .if_icmp _ _ => 3 | .ifnull _ => 3 | .ifnonnull _ => 3 | .if_acmp _ _ => 3
  | .getfield _ => 3 | .putfield _ => 3 | .getstatic _ => 3 | .checkcast _ => 3 | .instanceof _ => 3 | .new _ => 3 | .anewarray _ => 3
  | .invokevirtual _ => 3 | .invokespecial _ => 3 | .invokestatic _ => 3 | .invokeinterface _ _ => 5 | .invokedynamic _ => 5 | .multianewarray _ _ => 4
  | _ => 1
theorem lo_mem : ∀ {l : Lo} {i : Nat} {v : Value}, lo_get l i = some v → (i, v) ∈ l
  | [], _, _, h => by cases h
  | q :: l, i, v, h => by
    unfold lo_get at h
    cases hq : Nat.beq q.1 i with
    | true =>
      rw [hq] at h
      have e : q.1 = i := Nat.eq_of_beq_eq_true hq
      have e2 : q.2 = v := Option.some.inj h
      rw [← e, ← e2]
      exact List.mem_cons_self
    | false =>
      rw [hq] at h
      exact List.mem_cons_of_mem _ (lo_mem h)
theorem lo_has {ls : Array Slot} {nL : Nat} {l : Lo} (h : lv_has ls nL l) {i : Nat} {v : Value} (hg : lo_get l i = some v) : ls[i]? = some (.val v) := h.2.2 (i, v) (lo_mem hg)
section SXA
variable {p : Program} {l : Launch} {e : Env} {R : Room} {s : State} {m : MethodId} {args : Array Value} {below : List Frame} {meth : Method} {c : Code} {H : Heap} {locs : List Loc} {cells slots : Nat} {Q : State → Prop}
variable {cc : ByteArray} {pc : Nat} {ls : Array Slot} {rest : List Value}
theorem sx_con (hx : p.tables.exec = Jvm.exec) (hb : c.code = cc) {own : String} (hown : s.vm.findClass own = some m.cls) {i : Instr} {len : Nat} {ops : List Nat} (hd : decode cc pc = .ok (i, len)) (hlen : len = rn_len i)
    (hldc : ∀ ix n, i = .ldc ix → ops = [0, n] → (Jvm.Cond.constant own ix (Int32.ofNat n)).before args s = true) (hldc2 : ∀ ix n, i = .ldc2_w ix → ops = [n] → (Jvm.Cond.constantLong own ix (Int64.ofNat n)).before args s = true)
    {w : Value} (h : rn_con i ops = some w) (k : W p l e R s m args below meth c H locs cells slots Q (F0 m (pc + len) ls (w :: rest))) : W p l e R s m args below meth c H locs cells slots Q (F0 m pc ls rest) := by
  subst hlen
  unfold rn_con at h
  split at h
  · cases h; exact lv_iconst hx hb hd rfl k
  · cases h; exact lv_bipush hx hb hd rfl k
  · cases h; exact lv_sipush hx hb hd rfl k
  · cases h; exact lv_lconst hx hb hd rfl k
  · split at h
    · next e => subst e; cases h; exact lv_dconst0 hx hb hd k
    · cases h
  · cases h; exact lv_null hx hb hd k
  · cases h; exact lv_ldc hx hb hown (hldc _ _ rfl rfl) hd k
  · cases h; exact lv_ldc2 hx hb hown (hldc2 _ _ rfl rfl) hd k
  · cases h
theorem sx_un (hx : p.tables.exec = Jvm.exec) (hb : c.code = cc) {i : Instr} {len : Nat} (hd : decode cc pc = .ok (i, len)) (hlen : len = rn_len i)
    {v w : Value} (h : rn_un i v = some w) (k : W p l e R s m args below meth c H locs cells slots Q (F0 m (pc + len) ls (w :: rest))) : W p l e R s m args below meth c H locs cells slots Q (F0 m pc ls (v :: rest)) := by
  subst hlen
  unfold rn_un at h
  split at h
  · cases h; exact lv_ineg hx hb hd k
  · cases h; exact lv_i2l hx hb hd rfl k
  · cases h; exact lv_l2i hx hb hd rfl k
  · cases h; exact lv_i2d hx hb hd k
  · cases h
theorem sx_bin (hx : p.tables.exec = Jvm.exec) (hb : c.code = cc) {i : Instr} {len : Nat} (hd : decode cc pc = .ok (i, len)) (hlen : len = rn_len i)
    {y x w : Value} (h : rn_bin i y x = some w) (k : W p l e R s m args below meth c H locs cells slots Q (F0 m (pc + len) ls (w :: rest))) : W p l e R s m args below meth c H locs cells slots Q (F0 m pc ls (y :: x :: rest)) := by
  subst hlen
  unfold rn_bin at h
  split at h
  · cases h; exact lv_iadd hx hb hd k
  · cases h; exact lv_isub hx hb hd k
  · cases h; exact lv_imul hx hb hd k
  · split at h
    · cases h
    · next hne => cases h; exact lv_idiv hx hb hd hne k
  · split at h
    · cases h
    · next hne => cases h; exact lv_irem hx hb hd hne k
  · cases h; exact lv_iand hx hb hd k
  · cases h; exact lv_ior hx hb hd k
  · cases h; exact lv_ixor hx hb hd k
  · cases h; exact lv_ishl hx hb hd k
  · cases h; exact lv_ishr hx hb hd k
  · cases h; exact lv_ladd hx hb hd k
  · cases h; exact lv_lsub hx hb hd k
  · cases h; exact lv_lmul hx hb hd k
  · cases h; exact lv_land hx hb hd k
  · cases h; exact lv_lor hx hb hd k
  · cases h; exact lv_lxor hx hb hd k
  · cases h; exact lv_lshl hx hb hd rfl k
  · cases h; exact lv_lushr hx hb hd rfl k
  · cases h; exact W.lcmp hx hb hd k
  · cases h; exact lv_dcmp hx hb hd k
  · split at h
    · next hne => cases h; exact lv_ddiv hx hb hd hne k
    · cases h
  · cases h
theorem sx_ld (hx : p.tables.exec = Jvm.exec) (hb : c.code = cc) {i : Instr} {len : Nat} (hd : decode cc pc = .ok (i, len)) (hlen : len = rn_len i) {j t nL : Nat} {lo : Lo} (hl : lv_has ls nL lo)
    (hi : rn_ld i = some (j, t)) {v : Value} (hg : lo_get lo j = some v) (ht : Nat.beq (rn_tag v) t = true) (k : W p l e R s m args below meth c H locs cells slots Q (F0 m (pc + len) ls (v :: rest))) : W p l e R s m args below meth c H locs cells slots Q (F0 m pc ls rest) := by
  subst hlen
  have hv := lo_has hl hg
  unfold rn_ld at hi
  split at hi <;> cases hi <;> cases v <;> first
    | exact absurd ht Bool.false_ne_true
    | exact lv_iload hx hb hd hv k
    | exact lv_iload_n hx hb hd rfl hv k
    | exact lv_aload hx hb hd hv k
    | exact lv_aload_n hx hb hd rfl hv k
    | exact lv_aloadN hx hb hd hv k
    | exact lv_aload_nN hx hb hd rfl hv k
    | exact lv_lload hx hb hd hv k
    | exact lv_lload_n hx hb hd rfl hv k
    | exact lv_dload hx hb hd hv k
theorem sx_st (hx : p.tables.exec = Jvm.exec) (hb : c.code = cc) {i : Instr} {len : Nat} (hd : decode cc pc = .ok (i, len)) (hlen : len = rn_len i) {j t nL : Nat} {lo : Lo} (hl : lv_has ls nL lo)
    (hi : rn_st i = some (j, t)) (hj : j < nL) (hj2 : 2 ≤ t → j + 1 < nL) {v : Value} (ht : Nat.beq (rn_tag v) t = true)
    (k : ∀ ls' : Array Slot, lv_has ls' nL (bif Nat.blt t 2 then lo_set1 lo j v else lo_set2 lo j v) → W p l e R s m args below meth c H locs cells slots Q (F0 m (pc + len) ls' rest)) : W p l e R s m args below meth c H locs cells slots Q (F0 m pc ls (v :: rest)) := by
  subst hlen
  unfold rn_st at hi
  split at hi <;> cases hi <;> cases v <;> first
    | exact absurd ht Bool.false_ne_true
    | exact lv_istore hx hb hd hl hj rfl k
    | exact lv_istore_n hx hb hd rfl hl hj rfl k
    | exact lv_astore hx hb hd hl hj rfl k
    | exact lv_astore_n hx hb hd rfl hl hj rfl k
    | exact lv_astoreN hx hb hd hl hj rfl k
    | exact lv_astore_nN hx hb hd rfl hl hj rfl k
    | exact lv_lstore hx hb hd hl (hj2 (Nat.le_refl 2)) rfl k
    | exact lv_lstore_n hx hb hd rfl hl (hj2 (Nat.le_refl 2)) rfl k
    | exact lv_dstore hx hb hd hl (hj2 (Nat.le_succ 2)) rfl k
theorem sx_inc (hx : p.tables.exec = Jvm.exec) (hb : c.code = cc) {j : Nat} {n : Int} {len : Nat} (hd : decode cc pc = .ok (.iinc j n, len)) (hlen : len = 3) {nL : Nat} {lo : Lo} (hl : lv_has ls nL lo)
    (hj : j < nL) {x : Int32} (hg : lo_get lo j = some (.int x))
    (k : ∀ ls' : Array Slot, lv_has ls' nL (lo_set1 lo j (.int (x + Int32.ofInt n))) → W p l e R s m args below meth c H locs cells slots Q (F0 m (pc + len) ls' rest)) : W p l e R s m args below meth c H locs cells slots Q (F0 m pc ls rest) := by
  subst hlen
  obtain ⟨q, hq⟩ := List.getElem?_of_mem (lo_mem hg)
  exact lv_iinc hx hb hd hl hq rfl hj rfl k
theorem sx_stk (hx : p.tables.exec = Jvm.exec) (hb : c.code = cc) {i : Instr} {len : Nat} {ops : List Nat} (hd : decode cc pc = .ok (i, len)) (hlen : len = rn_len i) {own : String} (hown : s.vm.findClass own = some m.cls)
    (hobj : ∀ ix, i = .invokespecial ix → (Cond.methodLink own ix Lib.objectInit).before args s = true ∧ (Cond.instanceMethod Lib.objectInit).before args s = true ∧ (Cond.code Lib.objectInit ⟨#[0xb1]⟩ 1 none).before args s = true)
    (hsz : ls.size = c.maxLocals) (hfr : 1 ≤ R.frames) (hlo : 20 ≤ R.locals)
    {st st' : List Value} (h : rn_stk i st = some st') (k : W p l e R s m args below meth c H locs cells slots Q (F0 m (pc + len) ls st')) : W p l e R s m args below meth c H locs cells slots Q (F0 m pc ls st) := by
  subst hlen
  unfold rn_stk at h
  split at h
  · split at h
    · next e => cases h; exact lv_dup hx hb hd e k
    · cases h
  · split at h
    · next e => cases h; exact lv_dup_x1 hx hb hd e.1 e.2 k
    · cases h
  · split at h
    · next e => cases h; exact lv_dup2_11 hx hb hd e.1 e.2 k
    · cases h
  · split at h
    · next e => cases h; exact lv_pop hx hb hd e k
    · cases h
  · split at h
    · next ix a r e =>
      cases h
      obtain ⟨h1, h2, h3⟩ := hobj _ rfl
      exact W.objInit hx hb hown h1 h2 h3 rfl hsz rfl hd hfr (by have := lv_room (m := m) (pc := pc) (ls := ls) (rest := []) e; show 2 * 0 + _ + 12 ≤ _; omega) k
    · cases h
  · cases h
end SXA

/-! what a run knows of the tables, at every method's start -/
def nw_k : Jvm.Cond → Bool
  | .fieldLinkNest _ _ _ _ _ _ => true
  | .methodLinkNest _ _ _ _ => true
  | .castable _ _ => true
  | .declares _ => true
  | _ => false
theorem nw_warm {w : Jvm.Cond} (hk : nw_k w = true) {s U : State} (hW : s.WarmedH U.vm) (h : va_Nw w s) : va_Nw w U := by
  cases w <;> first
    | exact absurd hk Bool.false_ne_true
    | exact h.warmF hW
    | exact h.warmM hW
    | exact h.warmC hW
    | exact h.warmD hW
theorem nw_use {w : Jvm.Cond} (hk : nw_k w = true) {A : Array Value} {U : State} (h : va_Nw w U) : w.before A U = true := by
  cases w <;> first
    | exact absurd hk Bool.false_ne_true
    | exact va_Nw.use rfl h
theorem nw_of {w : Jvm.Cond} (hk : nw_k w = true) {A : Array Value} {U : State} (h : w.before A U = true) : va_Nw w U := by
  cases w <;> first
    | exact absurd hk Bool.false_ne_true
    | exact va_Nw.of rfl h
abbrev st_C : Type := String × String × String
def stL : List st_C := [("QuorumLog$Role", "FOLLOWER", "LQuorumLog$Role;"), ("QuorumLog$Role", "SOUNDER", "LQuorumLog$Role;"), ("QuorumLog$Role", "CANDIDATE", "LQuorumLog$Role;"), ("QuorumLog$Role", "LEADER", "LQuorumLog$Role;"),
  ("QuorumLog$Deed", "PUT", "LQuorumLog$Deed;"), ("QuorumLog$Deed", "ADD", "LQuorumLog$Deed;"), ("QuorumLog$Deed", "SWAP", "LQuorumLog$Deed;"), ("java/util/ArrayList", "DEFAULTCAPACITY_EMPTY_ELEMENTDATA", "[Ljava/lang/Object;"), ("java/util/BitSet", "$assertionsDisabled", "Z")]
def kv_cls (D : va_G) (s : State) : Prop := ∀ (ci : Nat) (q : vw_C), clL[ci]? = some q → u_Kn s q.1 q.2.1 q.2.2 (D.1 ci) (D.2 ci)
def kv_enum (D : va_G) (s : State) : Prop := ∃ (cf : ClassId) (kf : Class) (fi : Nat) (f : Field), s.fieldFound? "java/lang/Enum" "ordinal" "I" = some (cf, kf, fi, f) ∧ f.slot = D.2 50 0 ∧ f.isStatic = false
def kv_nest (s : State) : Prop := ∀ w ∈ lw_tbl, nw_k w = true → va_Nw w s
def kv_stat (E : Env0) (s : State) (H : Heap) : Prop := ∀ (i : Nat) (q : st_C), stL[i]? = some q → va_Z q.1 q.2.1 q.2.2 (E.2 i) (rl_A E.1) s H
def kv_mir (E : Env0) (s : State) : Prop := ∃ mi : Nat, E.2 9 = .ref mi ∧ va_Mi "[Ljava/lang/Object;" mi s
def ncL : List (String × String) := [("QuorumLog$Empty", "QuorumLog$Joined"), ("QuorumLog$Asked", "QuorumLog$Joined"), ("java/lang/IllegalStateException", "java/lang/IndexOutOfBoundsException"), ("java/lang/IllegalArgumentException", "java/lang/IndexOutOfBoundsException"), ("java/lang/IllegalStateException", "java/lang/IllegalArgumentException")]
def kv_not (s : State) : Prop := ∀ q ∈ ncL, va_Nc q.1 q.2 s
def kv_over (s : State) : Prop := va_AO "java/lang/Object" s ∧ va_AO "QuorumLog$Server" s ∧ va_AO "QuorumLog$Client" s
abbrev y_lsize : MethodName := ⟨"java/util/List", "size", "()I"⟩
abbrev y_lget : MethodName := ⟨"java/util/List", "get", "(I)Ljava/lang/Object;"⟩
abbrev y_ctoA : MethodName := ⟨"java/util/Collection", "toArray", "()[Ljava/lang/Object;"⟩
abbrev y_asize : MethodName := ⟨"java/util/ArrayList", "size", "()I"⟩
abbrev y_aget : MethodName := ⟨"java/util/ArrayList", "get", "(I)Ljava/lang/Object;"⟩
abbrev y_atoA : MethodName := ⟨"java/util/ArrayList", "toArray", "()[Ljava/lang/Object;"⟩
def kv_face (s : State) : Prop := va_Fw "java/util/ArrayList" y_lsize y_asize s ∧ va_Fw "java/util/ArrayList" y_lget y_aget s ∧ va_Fw "java/util/ArrayList" y_ctoA y_atoA s
def kv_exc (E : Env0) (s : State) (H : Heap) : Prop := vx_Zq Bundle.tN "UNASSIGNED_STACK" Bundle.steD (rl_A E.1) s H ∧ vx_Zq Bundle.tN "SUPPRESSED_SENTINEL" Bundle.listD (rl_A E.1) s H
/-! two dimensions -/
def ml_ok (t : FieldType) (s : State) : Prop := ∃ (comp cA : ClassId) (kA kc : Class) (comp2 : ClassId), s.vm.findClass (FieldType.array t).toString = some comp ∧ s.vm.findClass ("[" ++ (FieldType.array t).toString) = some cA ∧ s.vm.classes[cA]? = some kA ∧ kA.kind = .array comp (.array t) ∧ s.vm.classes[comp]? = some kc ∧ kc.kind = .array comp2 t
theorem ml_moved {t : FieldType} {u U : State} (hvm : u.vm.Alike U.vm) (h : ml_ok t u) : ml_ok t U := by
  obtain ⟨comp, cA, kA, kc, comp2, h1, h2, h3, h4, h5, h6⟩ := h
  obtain ⟨kA', a1, a2⟩ := hvm.2.2 _ _ h3
  obtain ⟨kc', b1, b2⟩ := hvm.2.2 _ _ h5
  exact ⟨comp, cA, kA', kc', comp2, by rw [hvm.findClass]; exact h1, by rw [hvm.findClass]; exact h2, a1, by rw [a2]; exact h4, b1, by rw [b2]; exact h6⟩
def kv_mul (s : State) : Prop := ml_ok .int s ∧ ml_ok .boolean s
def kv_ok (D : va_G) (E : Env0) (s : State) (H : Heap) : Prop := kv_cls D s ∧ kv_enum D s ∧ kv_nest s ∧ kv_stat E s H ∧ kv_mir E s ∧ kv_not s ∧ kv_over s ∧ kv_face s ∧ kv_exc E s H ∧ kv_mul s ∧ kv_lam D E s
/-- a field's link, plain or of a nest mate -/
def ek_lk (own : String) (ix : Nat) (ref nm ds : String) : Prop := Cond.fieldLink own ix ref nm ds ∈ lw_all ∨ ∃ host, Cond.fieldLinkNest own ix ref nm ds host ∈ lw_tbl
def ek_fld (own : String) (ix kd k : Nat) : Prop :=
  (kd < 50 ∧ ∃ (q : vw_C) (ref : String), clL[kd - 1]? = some q ∧ k < q.2.2 ∧ ek_lk own ix ref (q.2.1 k).2.1 (q.2.1 k).2.2.1 ∧ (ref = (q.2.1 k).1 ∨ Cond.sameField ref (q.2.1 k).1 (q.2.1 k).2.1 (q.2.1 k).2.2.1 ∈ lw_all)) ∨
  (50 ≤ kd ∧ kd < 60 ∧ k = 0 ∧ Cond.fieldLink own ix "java/lang/Enum" "ordinal" "I" ∈ lw_all)
def cl_ok : Prop := ∀ (ci : Nat) (q : vw_C), clL[ci]? = some q → cl_row ci q
section SXB
variable {p : Program} {l : Launch} {e : Env} {R : Room} {s : State} {m : MethodId} {args : Array Value} {below : List Frame} {meth : Method} {c : Code} {H : Heap} {locs : List Loc} {cells slots : Nat} {Q : State → Prop}
variable {cc : ByteArray} {pc : Nat} {ls : Array Slot} {rest : List Value} {D : va_G} {E : Env0} {h : Hp}
theorem sx_get (hx : p.tables.exec = Jvm.exec) (hb : c.code = cc) {own : String} (hown : s.vm.findClass own = some m.cls) (hts : ∀ w ∈ lw_all, w.before args s = true) (hcl : cl_ok) (hK : kv_cls D s) (hE : kv_enum D s) (hN : kv_nest s)
    (hr : rl_H D s E.1 h H) {ix a k : Nat} (h0 : hp_kd h a ≠ 0) (hf : ek_fld own ix (hp_kd h a) k) (hd : decode cc pc = .ok (.getfield ix, 3))
    (kk : W p l e R s m args below meth c H locs cells slots Q (F0 m (pc + 3) ls (hp_at h a k :: rest))) : W p l e R s m args below meth c H locs cells slots Q (F0 m pc ls (.ref a :: rest)) := by
  obtain ⟨cell, c1, c2, c3, c4, c5, c6⟩ := hr.2 a h0
  rcases hf with ⟨h1, q, ref, h2, h3, h4, h5⟩ | ⟨h1, h2, h3, h4⟩
  · obtain ⟨q', z1, z2, z3⟩ := c5.1 h1
    cases h2.symm.trans z1
    obtain ⟨hS, hfc, kC, hkC, hkind⟩ := hK _ q h2
    obtain ⟨cf, kf, fi, f, hi, hsl⟩ := hS k h3
    obtain ⟨hin, -⟩ := hcl _ q h2
    have hsame : s.fieldFound? ref (q.2.1 k).2.1 (q.2.1 k).2.2.1 = some (cf, kf, fi, f) := by
      rcases h5 with rfl | h5
      · exact hi
      · exact u_same (hts _ h5) _ hi
    have hst := (u_facts hfc hkC (u_lays hts hin h3) hi).1
    have hv : cell.slots[f.slot]? = some (hp_at h a k) := by
      rw [hsl]
      have := c6 k (by rw [z3]; exact h3)
      rw [show rl_ix D (hp_kd h a) k = D.2 (hp_kd h a - 1) k from if_pos h1] at this
      exact this
    rcases h4 with h4 | ⟨host, h4⟩
    · exact W.getf hx hb hown (hts _ h4) hsame hst c1 c3 hv rfl rfl hd kk
    · exact va_Wgetf hx hb hown (nw_use rfl (hN _ h4 rfl)) hsame hst c1 c3 hv rfl rfl hd kk
  · subst h3
    obtain ⟨z1, z2⟩ := c5.2.1 h1 h2
    obtain ⟨cf, kf, fi, f, hi, hsl, hst⟩ := hE
    have hv : cell.slots[f.slot]? = some (hp_at h a 0) := by
      rw [hsl]
      have := c6 0 (by rw [z2]; exact Nat.one_pos)
      rw [show rl_ix D (hp_kd h a) 0 = D.2 50 0 from by unfold rl_ix; rw [if_neg (by omega), if_pos h2]] at this
      exact this
    exact W.getf hx hb hown (hts _ h4) hi hst c1 c3 hv rfl rfl hd kk
theorem sx_in {i : Int32} {n : Nat} (h : rn_in i n = true) : ¬ (i < 0 ∨ n ≤ i.toNatClampNeg) := by
  unfold rn_in at h
  simp only [Bool.and_eq_true, decide_eq_true_eq] at h
  rintro (q | q)
  · exact h.1 q
  · omega
theorem rl_arr (hr : rl_H D s E.1 h H) {a : Nat} (hk : 100 < hp_kd h a) : ∃ cell : Cell, H[a]? = some cell ∧ s.isArrayOf cell (ar_ty (hp_kd h a)) ∧ cell.vm ≠ .unknown ∧ cell.slots.size = hp_ln h a ∧ ∀ k, k < hp_ln h a → cell.slots[k]? = some (hp_at h a k) := by
  obtain ⟨cell, c1, c2, c3, c4, c5, c6⟩ := hr.2 a (by omega)
  obtain ⟨z1, z2, z3⟩ := c5.2.2.2 hk
  refine ⟨cell, c1, z2, c3, z1, fun k hk' => ?_⟩
  have := c6 k hk'
  rw [show rl_ix D (hp_kd h a) k = k from by unfold rl_ix; rw [if_neg (by omega), if_neg (by omega)]] at this
  exact this
theorem sx_iald (hx : p.tables.exec = Jvm.exec) (hb : c.code = cc) (hr : rl_H D s E.1 h H) {a : Nat} {i : Int32} (hk : hp_kd h a = kI) (hin : rn_in i (hp_ln h a) = true) (hd : decode cc pc = .ok (.iaload, 1))
    (kk : W p l e R s m args below meth c H locs cells slots Q (F0 m (pc + 1) ls (hp_at h a i.toNatClampNeg :: rest))) : W p l e R s m args below meth c H locs cells slots Q (F0 m pc ls (.int i :: .ref a :: rest)) := by
  obtain ⟨cell, c1, c2, c3, c4, c5⟩ := rl_arr hr (a := a) (by rw [hk]; decide)
  rw [hk] at c2
  have h1 := sx_in hin
  exact W.iald hx hb c1 c2 c3 (by rw [c4]; exact h1) (c5 _ (by omega)) rfl rfl hd kk
theorem sx_zald (hx : p.tables.exec = Jvm.exec) (hb : c.code = cc) (hr : rl_H D s E.1 h H) {a : Nat} {i : Int32} (hk : hp_kd h a = kZ) (hin : rn_in i (hp_ln h a) = true) (hd : decode cc pc = .ok (.baload, 1))
    (kk : W p l e R s m args below meth c H locs cells slots Q (F0 m (pc + 1) ls (hp_at h a i.toNatClampNeg :: rest))) : W p l e R s m args below meth c H locs cells slots Q (F0 m pc ls (.int i :: .ref a :: rest)) := by
  obtain ⟨cell, c1, c2, c3, c4, c5⟩ := rl_arr hr (a := a) (by rw [hk]; decide)
  rw [hk] at c2
  have h1 := sx_in hin
  exact W.zald hx hb c1 c2 c3 (by rw [c4]; exact h1) (c5 _ (by omega)) rfl rfl hd kk
theorem sx_lald (hx : p.tables.exec = Jvm.exec) (hb : c.code = cc) (hr : rl_H D s E.1 h H) {a : Nat} {i : Int32} (hk : hp_kd h a = kJ) (hin : rn_in i (hp_ln h a) = true) (hd : decode cc pc = .ok (.laload, 1))
    (kk : W p l e R s m args below meth c H locs cells slots Q (F0 m (pc + 1) ls (hp_at h a i.toNatClampNeg :: rest))) : W p l e R s m args below meth c H locs cells slots Q (F0 m pc ls (.int i :: .ref a :: rest)) := by
  obtain ⟨cell, c1, c2, c3, c4, c5⟩ := rl_arr hr (a := a) (by rw [hk]; decide)
  rw [hk] at c2
  have h1 := sx_in hin
  exact W.lald hx hb c1 c2 c3 (by rw [c4]; exact h1) (c5 _ (by omega)) rfl rfl hd kk
theorem ar_ref {kd : Nat} (h : kO ≤ kd) : (ar_ty kd).isReference = true := by
  have h : 104 ≤ kd := h
  unfold ar_ty
  rw [if_neg (by omega), if_neg (by omega), if_neg (by omega)]
  split
  · rfl
  · split
    · rfl
    · split
      · rfl
      · split <;> rfl
theorem sx_aald (hx : p.tables.exec = Jvm.exec) (hb : c.code = cc) (hr : rl_H D s E.1 h H) {a : Nat} {i : Int32} (hk : kO ≤ hp_kd h a) (hin : rn_in i (hp_ln h a) = true) (hd : decode cc pc = .ok (.aaload, 1))
    (kk : W p l e R s m args below meth c H locs cells slots Q (F0 m (pc + 1) ls (hp_at h a i.toNatClampNeg :: rest))) : W p l e R s m args below meth c H locs cells slots Q (F0 m pc ls (.int i :: .ref a :: rest)) := by
  have hk' : 104 ≤ hp_kd h a := hk
  obtain ⟨cell, c1, c2, c3, c4, c5⟩ := rl_arr hr (a := a) (by omega)
  have h1 := sx_in hin
  exact W.aald hx hb c1 c2 (ar_ref hk) c3 (by rw [c4]; exact h1) (c5 _ (by omega)) rfl rfl hd kk
theorem sx_alen (hx : p.tables.exec = Jvm.exec) (hb : c.code = cc) (hr : rl_H D s E.1 h H) {a : Nat} (hk : kI ≤ hp_kd h a) (hd : decode cc pc = .ok (.arraylength, 1))
    (kk : W p l e R s m args below meth c H locs cells slots Q (F0 m (pc + 1) ls (.int (Int32.ofNat (hp_ln h a)) :: rest))) : W p l e R s m args below meth c H locs cells slots Q (F0 m pc ls (.ref a :: rest)) := by
  have hk' : 101 ≤ hp_kd h a := hk
  obtain ⟨cell, c1, c2, c3, c4, c5⟩ := rl_arr hr (a := a) (by omega)
  exact W.alen hx hb c1 c2 (n := Int32.ofNat (hp_ln h a)) (by rw [c4]) rfl rfl hd kk
theorem sx_gets (hx : p.tables.exec = Jvm.exec) (hb : c.code = cc) {own : String} (hown : s.vm.findClass own = some m.cls) (hts : ∀ w ∈ lw_all, w.before args s = true) (hZ : kv_stat E s s.heap) (hS : va_S (rl_A E.1) s.heap H locs)
    {ix i : Nat} {q : st_C} (hq : stL[i]? = some q) (hl : Cond.fieldLink own ix q.1 q.2.1 q.2.2 ∈ lw_all) (hd : decode cc pc = .ok (.getstatic ix, 3))
    (kk : W p l e R s m args below meth c H locs cells slots Q (F0 m (pc + 3) ls (E.2 i :: rest))) : W p l e R s m args below meth c H locs cells slots Q (F0 m pc ls rest) :=
  va_gets hx hb (hZ i q hq) hS hown (hts _ hl) (fun x hx => hx) hd kk
/-- a cell's kind by its name -/
def kd_nm (kd : Nat) : String := if kd < 50 then (clL.getD (kd - 1) ("", fun _ => ("", "", "", false), 0)).1 else en_nm kd
theorem rl_recv (hK : kv_cls D s) (hr : rl_H D s E.1 h H) {a : Nat} (h0 : hp_kd h a ≠ 0) (h6 : hp_kd h a < 60) : ∃ cell : Cell, H[a]? = some cell ∧ cell.vm.isStatics = false ∧ s.vm.findClass (kd_nm (hp_kd h a)) = some cell.cls := by
  obtain ⟨cell, c1, c2, c3, c4, c5, c6⟩ := hr.2 a h0
  refine ⟨cell, c1, c2, ?_⟩
  by_cases h5 : hp_kd h a < 50
  · obtain ⟨q, z1, z2, z3⟩ := c5.1 h5
    obtain ⟨hS, hfc, kC, hkC, hkind⟩ := hK _ q z1
    rw [show kd_nm (hp_kd h a) = q.1 from by unfold kd_nm; rw [if_pos h5, List.getD_eq_getElem?_getD, z1]; rfl, z2]
    exact hfc
  · rw [show kd_nm (hp_kd h a) = en_nm (hp_kd h a) from if_neg h5]
    exact (c5.2.1 (by omega) h6).1
theorem sx_cast (hx : p.tables.exec = Jvm.exec) (hb : c.code = cc) {own : String} (hown : s.vm.findClass own = some m.cls) (hts : ∀ w ∈ lw_all, w.before args s = true) (hK : kv_cls D s) (hN : kv_nest s) (hr : rl_H D s E.1 h H)
    {ix a : Nat} {nm : String} (h0 : hp_kd h a ≠ 0) (h6 : hp_kd h a < 60) (hl : Cond.classLink own ix nm ∈ lw_all) (hc : kd_nm (hp_kd h a) = nm ∧ hp_kd h a < 50 ∨ Cond.castable (kd_nm (hp_kd h a)) nm ∈ lw_tbl) (hd : decode cc pc = .ok (.checkcast ix, 3))
    (kk : W p l e R s m args below meth c H locs cells slots Q (F0 m (pc + 3) ls (.ref a :: rest))) : W p l e R s m args below meth c H locs cells slots Q (F0 m pc ls (.ref a :: rest)) := by
  have hrec := rl_recv hK hr h0 h6
  rcases hc with ⟨hc, h5⟩ | hc
  · obtain ⟨cell, c1, c2, c3, c4, c5, c6⟩ := hr.2 a h0
    obtain ⟨q, z1, z2, z3⟩ := c5.1 h5
    have hK1 := hK _ q z1
    rw [hc] at hrec
    have e : nm = q.1 := by rw [← hc]; unfold kd_nm; rw [if_pos h5, List.getD_eq_getElem?_getD, z1]; rfl
    exact va_castS hx hb hown (hts _ hl) (e ▸ hK1.2) hrec hd kk
  · exact va_castY hx hb hown (hts _ hl) (hN _ hc rfl) hrec hd kk
theorem sx_inst1 (hx : p.tables.exec = Jvm.exec) (hb : c.code = cc) {own : String} (hown : s.vm.findClass own = some m.cls) (hts : ∀ w ∈ lw_all, w.before args s = true) (hK : kv_cls D s) (hr : rl_H D s E.1 h H)
    {ix a : Nat} {nm : String} (h0 : hp_kd h a ≠ 0) (h5 : hp_kd h a < 50) (hl : Cond.classLink own ix nm ∈ lw_all) (hc : kd_nm (hp_kd h a) = nm) (hd : decode cc pc = .ok (.instanceof ix, 3))
    (kk : W p l e R s m args below meth c H locs cells slots Q (F0 m (pc + 3) ls (.int 1 :: rest))) : W p l e R s m args below meth c H locs cells slots Q (F0 m pc ls (.ref a :: rest)) := by
  have hrec := rl_recv hK hr h0 (by omega)
  obtain ⟨cell, c1, c2, c3, c4, c5, c6⟩ := hr.2 a h0
  obtain ⟨q, z1, z2, z3⟩ := c5.1 h5
  have hK1 := hK _ q z1
  rw [hc] at hrec
  have e : nm = q.1 := by rw [← hc]; unfold kd_nm; rw [if_pos h5, List.getD_eq_getElem?_getD, z1]; rfl
  exact va_instS hx hb hown (hts _ hl) (e ▸ hK1.2) hrec hd kk
theorem sx_inst0 (hx : p.tables.exec = Jvm.exec) (hb : c.code = cc) {own : String} (hown : s.vm.findClass own = some m.cls) (hts : ∀ w ∈ lw_all, w.before args s = true) (hK : kv_cls D s) (hr : rl_H D s E.1 h H)
    {ix a : Nat} {nm : String} (h0 : hp_kd h a ≠ 0) (h5 : hp_kd h a < 50) (hl : Cond.classLink own ix nm ∈ lw_all) (hc : va_Nc (kd_nm (hp_kd h a)) nm s) (hd : decode cc pc = .ok (.instanceof ix, 3))
    (kk : W p l e R s m args below meth c H locs cells slots Q (F0 m (pc + 3) ls (.int 0 :: rest))) : W p l e R s m args below meth c H locs cells slots Q (F0 m pc ls (.ref a :: rest)) :=
  va_instNo hx hb hown (hts _ hl) hc (rl_recv hK hr h0 (by omega)) hd kk
end SXB

/-! what the tables must say of a callee and of a call -/
def mi_code (q : MI) : Jvm.Cond := match q.2.2.2.2 with
  | [] => Cond.code q.1 q.2.1 q.2.2.1 q.2.2.2.1
  | hh => Cond.codeWith q.1 q.2.1 q.2.2.1 q.2.2.2.1 hh
def mi_ok (q : MI) : Prop := mi_code q ∈ lw_all ∧ Cond.initialized q.1.cls ∈ lw_all ∧ (q.1.cls ≠ "java/lang/invoke/MethodHandle" ∧ q.1.cls ≠ "java/lang/invoke/VarHandle") ∧ plainName q.1.cls = true ∧ q.2.2.1 ≤ 60
def mi_n (q : MI) (n : Nat) : Prop := (parseMethodDescriptor q.1.desc).map (fun d => d.parameters.length) = some n
theorem mi_len {q : MI} {n : Nat} (h : mi_n q n) : ∀ sig, parseMethodDescriptor q.1.desc = some sig → n = sig.parameters.length := by
  intro sig hs
  unfold mi_n at h
  rw [hs] at h
  exact (Option.some.inj h).symm
theorem mi_good {q : MI} (h : mi_ok q) {args : Array Value} {s : State} (hts : ∀ w ∈ lw_all, w.before args s = true) : (∀ w ∈ mi_ws q, ∀ (a' : Array Value) (U : State), s.WarmedH U.vm → w.before a' U = true) := by
  have hG : GoodIn lw_all (mi_ws q) := by
    have h1 := h.1
    unfold mi_code at h1
    unfold mi_ws
    split at h1
    · next e => rw [e]; exact lw_meth h1
    · next e =>
      split
      · next e2 => exact absurd e2 (by assumption)
      · exact lw_methW h1
  intro w hw a' U hW
  exact word_at hW (hG w hw).2 (hts w (hG w hw).1)
/-- plain callee (no handlers) -/
def mi_pl (q : MI) : Prop := q.2.2.2.2 = []
theorem mi_plc {q : MI} (h : mi_ok q) (hp : mi_pl q) : Cond.code q.1 q.2.1 q.2.2.1 q.2.2.2.1 ∈ lw_all := by
  have := h.1
  unfold mi_code at this
  rw [hp] at this
  exact this
theorem mi_plw {q : MI} (hp : mi_pl q) : mi_ws q = ws_ q.1 q.2.1 q.2.2.1 q.2.2.2.1 := by
  unfold mi_ws
  rw [hp]
section SXH
variable {p : Program} {l : Launch} {e : Env} {R : Room} {s : State} {m : MethodId} {args : Array Value} {below : List Frame} {meth : Method} {c : Code} {H : Heap} {locs : List Loc} {cells slots : Nat} {Q : State → Prop}
variable {cc : ByteArray} {pc nL : Nat} {ls : Array Slot} {rest As : List Value} {D : va_G} {E : Env0} {h : Hp} {r : Rs × Hp} {q : MI} {own : String} {ix n d mc0 ms0 : Nat}
/-- a static call -/
def ek_cs (own : String) (ix n : Nat) (q : MI) : Prop := mi_ok q ∧ mi_n q n ∧ Cond.static q.1 ∈ lw_all ∧ (Cond.methodLink own ix q.1 ∈ lw_all ∨ mi_pl q ∧ ∃ host, Cond.methodLinkNest own ix q.1 host ∈ lw_tbl)
theorem sx_cs (hx : p.tables.exec = Jvm.exec) (hb : c.code = cc) (hml : c.maxLocals = nL) (hown : s.vm.findClass own = some m.cls) (hts : ∀ w ∈ lw_all, w.before args s = true) (hK : kv_ok D E s s.heap) (hr : rl_H D s E.1 h H) (hS : va_S (rl_A E.1) s.heap H locs) (hB : E.1 ≤ s.heap.size) (hsz : ls.size = nL)
    (hek : ek_cs own ix n q) (hM : cx_M l D E q d As h r) (hn : As.length = n) (hW : (rest.map fun v => v.category).sum ≤ 8) (hd : decode cc pc = .ok (.invokestatic ix, 3))
    (hf : cells + (hp_top r.2 - hp_top h) ≤ mc0 ∧ slots + (hp_use r.2 - hp_use h) ≤ ms0) :
    vx_Run p l e (cx_room (d + 1) mc0 ms0) s m args below meth c H locs cells slots (hp_top r.2 - hp_top h) (hp_use r.2 - hp_use h) (F0 m pc ls (As.reverse ++ rest)) rest (cx_Q D E r As.toArray) (cx_X D E r) (rl_A E.1) := by
  obtain ⟨hok, hlen, hst, hlk⟩ := hek
  obtain ⟨o1, o2, o3, o4, o5⟩ := id hok
  have hfr : (cx_room d (hp_top r.2 - hp_top h) (hp_use r.2 - hp_use h)).frames + 1 ≤ (cx_room (d + 1) mc0 ms0).frames := by show 8 * d + 16 + 1 ≤ 8 * (d + 1) + 16; omega
  have hlo : 8 + (q.2.2.1 + 11) + (cx_room d (hp_top r.2 - hp_top h) (hp_use r.2 - hp_use h)).locals ≤ (cx_room (d + 1) mc0 ms0).locals := by show 8 + (q.2.2.1 + 11) + (1000 * d + 5000) ≤ 1000 * (d + 1) + 5000; omega
  by_cases hp : q.2.2.2.2 = []
  · have hc := mi_plc hok hp
    have hw : Cond.code q.1 q.2.1 q.2.2.1 q.2.2.2.1 ∈ mi_ws q := by rw [mi_plw hp]; exact List.mem_cons_self
    rcases hlk with hlk | ⟨-, host, hlk⟩
    · exact vx_runS (Ts := lw_all) ⟨hx, hb, hml, hown, hts⟩ hM ⟨⟨rfl, rfl, hfr, hlo, mi_good hok hts, hw, hts _ hc, hts _ o2, o3, mi_len hlen, hts _ hlk⟩, hts _ hst⟩ ⟨cx_blind, cx_pre hK hr hS hB As⟩ rfl hn hsz rfl (lv_room hW) hd hf
    · exact vx_runSN (Ts := lw_all) ⟨hx, hb, hml, hown, hts⟩ hM ⟨⟨⟨rfl, rfl, hfr, hlo, mi_good hok hts, hw⟩, hts _ hc, hts _ o2, o3, mi_len hlen, nw_use rfl (hK.2.2.1 _ hlk rfl)⟩, hts _ hst, trivial⟩ ⟨cx_blind, cx_pre hK hr hS hB As⟩ rfl hn hsz rfl (lv_room hW) hd hf
  · have hc : Cond.codeWith q.1 q.2.1 q.2.2.1 q.2.2.2.1 q.2.2.2.2 ∈ lw_all := by
      unfold mi_code at o1
      split at o1
      · next e => exact absurd e hp
      · exact o1
    have hw : Cond.codeWith q.1 q.2.1 q.2.2.1 q.2.2.2.1 q.2.2.2.2 ∈ mi_ws q := by
      unfold mi_ws
      split
      · next e => exact absurd e hp
      · exact List.mem_cons_self
    rcases hlk with hlk | ⟨hpl, -⟩
    · exact vx_runSX (Ts := lw_all) (hh := q.2.2.2.2) ⟨hx, hb, hml, hown, hts⟩ hM ⟨⟨rfl, rfl, hfr, hlo, mi_good hok hts, hw⟩, hts _ hc, hts _ o2, o3, mi_len hlen, hts _ hlk, hts _ hst⟩ ⟨cx_blind, cx_pre hK hr hS hB As⟩ rfl hn hsz rfl (lv_room hW) hd hf
    · exact absurd hpl hp
/-- a maker's call -/
def ek_ci (own : String) (ix n : Nat) (q : MI) : Prop := mi_ok q ∧ mi_pl q ∧ mi_n q n ∧ q.1.name = "<init>" ∧ q.2.2.2.1 = none ∧ Cond.instanceMethod q.1 ∈ lw_all ∧ (Cond.methodLink own ix q.1 ∈ lw_all ∨ ∃ host, Cond.methodLinkNest own ix q.1 host ∈ lw_tbl)
theorem sx_ci (hx : p.tables.exec = Jvm.exec) (hb : c.code = cc) (hml : c.maxLocals = nL) (hown : s.vm.findClass own = some m.cls) (hts : ∀ w ∈ lw_all, w.before args s = true) (hK : kv_ok D E s s.heap) (hr : rl_H D s E.1 h H) (hS : va_S (rl_A E.1) s.heap H locs) (hB : E.1 ≤ s.heap.size) (hsz : ls.size = nL)
    (hek : ek_ci own ix n q) {b : Nat} (hM : cx_M l D E q d (.ref b :: As) h r) (hn : As.length = n) (hW : (rest.map fun v => v.category).sum ≤ 8) (hd : decode cc pc = .ok (.invokespecial ix, 3))
    (hf : cells + (hp_top r.2 - hp_top h) ≤ mc0 ∧ slots + (hp_use r.2 - hp_use h) ≤ ms0) :
    vx_Run p l e (cx_room (d + 1) mc0 ms0) s m args below meth c H locs cells slots (hp_top r.2 - hp_top h) (hp_use r.2 - hp_use h) (F0 m pc ls (As.reverse ++ .ref b :: rest)) rest (cx_Q D E r (Value.ref b :: As).toArray) (cx_X D E r) (rl_A E.1) := by
  obtain ⟨hok, hp, hlen, hnm, hret, hin, hlk⟩ := hek
  obtain ⟨o1, o2, o3, o4, o5⟩ := id hok
  have hfr : (cx_room d (hp_top r.2 - hp_top h) (hp_use r.2 - hp_use h)).frames + 1 ≤ (cx_room (d + 1) mc0 ms0).frames := by show 8 * d + 16 + 1 ≤ 8 * (d + 1) + 16; omega
  have hlo : 8 + (q.2.2.1 + 11) + (cx_room d (hp_top r.2 - hp_top h) (hp_use r.2 - hp_use h)).locals ≤ (cx_room (d + 1) mc0 ms0).locals := by show 8 + (q.2.2.1 + 11) + (1000 * d + 5000) ≤ 1000 * (d + 1) + 5000; omega
  have hc := mi_plc hok hp
  have hw : Cond.code q.1 q.2.1 q.2.2.1 q.2.2.2.1 ∈ mi_ws q := by rw [mi_plw hp]; exact List.mem_cons_self
  rw [hret] at hc hw
  rcases hlk with hlk | ⟨host, hlk⟩
  · exact vx_runI (Ts := lw_all) ⟨hx, hb, hml, hown, hts⟩ hM ⟨⟨rfl, rfl, hfr, hlo, mi_good hok hts, hw, hts _ hc, hts _ o2, o3, mi_len hlen, hts _ hlk⟩, hnm, hts _ hin⟩ ⟨cx_blind, cx_pre hK hr hS hB (.ref b :: As)⟩ rfl hn hsz rfl (lv_room hW) hd hf
  · exact vx_runIN (Ts := lw_all) ⟨hx, hb, hml, hown, hts⟩ hM ⟨⟨⟨rfl, rfl, hfr, hlo, mi_good hok hts, hw⟩, hts _ hc, hts _ o2, o3, mi_len hlen, nw_use rfl (hK.2.2.1 _ hlk rfl)⟩, hnm, hts _ hin⟩ ⟨cx_blind, cx_pre hK hr hS hB (.ref b :: As)⟩ rfl hn hsz rfl (lv_room hW) hd hf
/-- a call through an object of kind kd -/
def ek_cv (own : String) (ix n kd : Nat) (q : MI) : Prop := mi_ok q ∧ mi_pl q ∧ kd ≠ 0 ∧ kd < 60 ∧ Cond.instanceMethod q.1 ∈ lw_all ∧
  ((mi_n q n ∧ Cond.selects (kd_nm kd) q.1 q.1 ∈ lw_all ∧ (Cond.methodLink own ix q.1 ∈ lw_all ∨ ∃ host, Cond.methodLinkNest own ix q.1 host ∈ lw_tbl)) ∨
   ∃ (x : MethodName) (ow : String), (parseMethodDescriptor x.desc).map (fun d => d.parameters.length) = some n ∧ (ow ≠ "java/lang/invoke/MethodHandle" ∧ ow ≠ "java/lang/invoke/VarHandle") ∧ Cond.methodLink own ix x ∈ lw_all ∧ Cond.sameMethod x.cls ow x.name x.desc ∈ lw_all ∧ Cond.selects (kd_nm kd) x q.1 ∈ lw_all ∧
     ((Cond.instanceMethod ⟨ow, x.name, x.desc⟩ ∈ lw_all ∧ ∃ (b0 : ByteArray) (L0 : Nat) (r0 : Option FieldType), Cond.code ⟨ow, x.name, x.desc⟩ b0 L0 r0 ∈ lw_all) ∨ Cond.declares ⟨ow, x.name, x.desc⟩ ∈ lw_tbl))
theorem sx_cv (hx : p.tables.exec = Jvm.exec) (hb : c.code = cc) (hml : c.maxLocals = nL) (hown : s.vm.findClass own = some m.cls) (hts : ∀ w ∈ lw_all, w.before args s = true) (hK : kv_ok D E s s.heap) (hr : rl_H D s E.1 h H) (hS : va_S (rl_A E.1) s.heap H locs) (hB : E.1 ≤ s.heap.size) (hsz : ls.size = nL)
    {b : Nat} (hek : ek_cv own ix n (hp_kd h b) q) (hM : cx_M l D E q d (.ref b :: As) h r) (hn : As.length = n) (hW : (rest.map fun v => v.category).sum ≤ 8) (hd : decode cc pc = .ok (.invokevirtual ix, 3))
    (hf : cells + (hp_top r.2 - hp_top h) ≤ mc0 ∧ slots + (hp_use r.2 - hp_use h) ≤ ms0) :
    vx_Run p l e (cx_room (d + 1) mc0 ms0) s m args below meth c H locs cells slots (hp_top r.2 - hp_top h) (hp_use r.2 - hp_use h) (F0 m pc ls (As.reverse ++ .ref b :: rest)) rest (cx_Q D E r (Value.ref b :: As).toArray) (cx_X D E r) (rl_A E.1) := by
  obtain ⟨hok, hp, hk0, hk6, hin, hcase⟩ := hek
  obtain ⟨o1, o2, o3, o4, o5⟩ := id hok
  have hfr : (cx_room d (hp_top r.2 - hp_top h) (hp_use r.2 - hp_use h)).frames + 1 ≤ (cx_room (d + 1) mc0 ms0).frames := by show 8 * d + 16 + 1 ≤ 8 * (d + 1) + 16; omega
  have hlo : 8 + (q.2.2.1 + 11) + (cx_room d (hp_top r.2 - hp_top h) (hp_use r.2 - hp_use h)).locals ≤ (cx_room (d + 1) mc0 ms0).locals := by show 8 + (q.2.2.1 + 11) + (1000 * d + 5000) ≤ 1000 * (d + 1) + 5000; omega
  have hc := mi_plc hok hp
  have hw : Cond.code q.1 q.2.1 q.2.2.1 q.2.2.2.1 ∈ mi_ws q := by rw [mi_plw hp]; exact List.mem_cons_self
  have hrec := rl_recv hK.1 hr hk0 hk6
  rcases hcase with ⟨hlen, hsel, hlk⟩ | ⟨x, ow, hlen, how, hlk, hsame, hsel, hdecl⟩
  · rcases hlk with hlk | ⟨host, hlk⟩
    · exact vx_runV (Ts := lw_all) (C := kd_nm (hp_kd h b)) ⟨hx, hb, hml, hown, hts⟩ hM ⟨⟨rfl, rfl, hfr, hlo, mi_good hok hts, hw, hts _ hc, hts _ o2, o3, mi_len hlen, hts _ hlk⟩, hts _ hin, hts _ hsel⟩ ⟨cx_blind, hrec, cx_pre hK hr hS hB (.ref b :: As)⟩ rfl hn hsz rfl (lv_room hW) hd hf
    · exact vx_runVN (Ts := lw_all) (C := kd_nm (hp_kd h b)) ⟨hx, hb, hml, hown, hts⟩ hM ⟨⟨⟨rfl, rfl, hfr, hlo, mi_good hok hts, hw⟩, hts _ hc, hts _ o2, o3, mi_len hlen, nw_use rfl (hK.2.2.1 _ hlk rfl)⟩, hts _ hin, hts _ hsel⟩ ⟨cx_blind, hrec, cx_pre hK hr hS hB (.ref b :: As)⟩ rfl hn hsz rfl (lv_room hW) hd hf
  · have hD : va_Decl s ⟨ow, x.name, x.desc⟩ := by
      rcases hdecl with ⟨h1, b0, L0, r0, h2⟩ | h1
      · exact va_Decl.of (hts _ h1) (hts _ h2)
      · exact va_Decl.abs (hK.2.2.1 _ h1 rfl)
    have hlen' : ∀ sig, parseMethodDescriptor x.desc = some sig → n = sig.parameters.length := fun sig hs => by
      rw [hs] at hlen
      exact (Option.some.inj hlen).symm
    exact vx_runU (Ts := lw_all) (C := kd_nm (hp_kd h b)) (owner := ow) ⟨hx, hb, hml, hown, hts⟩ hM ⟨⟨rfl, rfl, hfr, hlo, mi_good hok hts, hw⟩, hts _ hc, hts _ o2, how, hlen', hts _ hlk, hts _ hsame, hD, hts _ hsel, hts _ hin⟩ ⟨cx_blind, hrec, cx_pre hK hr hS hB (.ref b :: As)⟩ rfl hn hsz rfl (lv_room hW) hd hf
end SXH

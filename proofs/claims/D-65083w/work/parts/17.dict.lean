/-! PART 17: dictionaries of calls -/
def zik (k i : Nat) : Instr := match k with
  | 0 => .invokevirtual i
  | 1 => .invokespecial i
  | _ => .invokestatic i
def zcAll (o fr lo : Nat) (ph : Bool) : zCl → Prop
  | [] => True
  | q :: t => zCk o fr lo ph (zik q.2.1 q.1) q.2.2.1 q.2.2.2 ∧ zMono q.2.2.2 ∧ zcAll o fr lo ph t
def zcHas (L : zCl) (k i : Nat) : Bool := match L.find? (fun q => q.1 == i) with
  | some q => q.2.1 == k
  | none => false
def zcKey (L : zCl) (tb : zTb) : Bool := tb.all (fun b => b.all (fun q => match q.2.1 with
  | .invokevirtual i => zcHas L 0 i
  | .invokespecial i => zcHas L 1 i
  | .invokestatic i => zcHas L 2 i
  | _ => true))
theorem zcAll_i {o fr lo : Nat} {ph : Bool} : ∀ {L : zCl}, zcAll o fr lo ph L → ∀ q ∈ L, zCk o fr lo ph (zik q.2.1 q.1) q.2.2.1 q.2.2.2 ∧ zMono q.2.2.2
  | [], _, q, hq => absurd hq List.not_mem_nil
  | v :: t, h, q, hq => by
    rcases List.mem_cons.mp hq with rfl | hq
    · exact ⟨h.1, h.2.1⟩
    · exact zcAll_i h.2.2 q hq
theorem zcX_m {o fr lo : Nat} {ph : Bool} {L : zCl} (h : zcAll o fr lo ph L) (i : Nat) : zMono (zcX L i) := by
  unfold zcX
  cases hf : L.find? (fun q => q.1 == i) with
  | none => exact fun _ _ _ _ _ _ _ _ h => h.elim
  | some q => exact (zcAll_i h q (List.mem_of_find?_eq_some hf)).2
theorem zcHas_i {o fr lo : Nat} {ph : Bool} {L : zCl} (h : zcAll o fr lo ph L) {k i : Nat} (hh : zcHas L k i = true) : zCk o fr lo ph (zik k i) (zcA L i) (zcX L i) := by
  unfold zcHas at hh
  unfold zcA zcX
  cases hf : L.find? (fun q => q.1 == i) with
  | none => rw [hf] at hh; cases hh
  | some q =>
    rw [hf] at hh
    have hi : q.1 = i := by have := List.find?_some hf; simpa using this
    have hk : q.2.1 = k := by simpa using hh
    have := (zcAll_i h q (List.mem_of_find?_eq_some hf)).1
    rw [hi, hk] at this
    exact this
theorem zTc_of {o fr lo : Nat} {ph : Bool} {L : zCl} {tb : zTb} (h : zcAll o fr lo ph L) (hk : zcKey L tb = true) : zTc o fr lo ph (zcA L) (zcX L) tb := by
  intro b hb q hq i hi
  have h3 := List.all_eq_true.mp (List.all_eq_true.mp hk b hb) q hq
  rcases hi with hi | hi | hi
  · rw [hi] at h3 ⊢; exact zcHas_i h h3
  · rw [hi] at h3 ⊢; exact zcHas_i h h3
  · rw [hi] at h3 ⊢; exact zcHas_i h h3
theorem zMd_ok {y : MethodName} {cc : ByteArray} {nL : Nat} {rt : Option FieldType} {o fr lo : Nat} {ph ini : Bool} {tb : zTb} {L : zCl} (hy : plainFor y = true) (ho : zow o = y.cls) (hini : ini = true → y.name = "<init>") (htv : zTv cc nL o ini tb = true) (hk : zcKey L tb = true) (h : zcAll o fr lo ph L) :
    zOk y (.code y cc nL rt) fr lo ph (zMd o rt ph tb L nL) := zMe_ok hy ho hini (zcX_m h) htv (zTc_of h hk)
/-- words of a static method's being there -/
theorem znm_code {y : MethodName} {b : ByteArray} {n : Nat} {r : Option FieldType} (h : Cond.code y b n r ∈ lw_tbl) (s : State) (hW : zWd s) : ∃ mk methM, s.methodNamed? y = some mk ∧ s.vm.method? mk = some methM := by
  have h1 := hW _ h rfl #[]
  obtain ⟨mk, hn⟩ := Cond.code_named h1
  obtain ⟨meth, c, q1, -⟩ := Cond.code_spec hn h1
  exact ⟨mk, meth, hn, q1⟩
/-- chunks with the private methods' own words -/
def zcq (n : Nat) : List Cond := match n with
  | 101 => k2_sels lw_privs_1
  | 102 => k2_sels lw_privs_2
  | 103 => k2_sels lw_privs_3
  | 104 => k2_sels lw_privs_4
  | 105 => k2_sels lw_privs_5
  | 106 => k2_sels lw_privs_6
  | 107 => k2_sels lw_privs_7
  | 108 => k2_sels lw_privs_8
  | 109 => k2_sels lw_privs_9
  | 110 => k2_sels lw_privs_10
  | 111 => k2_sels lw_privs_11
  | 112 => k2_sels lw_privs_12
  | 113 => k2_sels lw_privs_13
  | n => zch n
theorem zcq_in {n : Nat} {w : Cond} (h : w ∈ zcq n) : w ∈ lw_tbl := by
  unfold zcq at h
  split at h
  case h_14 => exact zch_in h
  all_goals
    refine List.mem_append_left _ ?_
    unfold lw_privs k2_sels
    unfold k2_sels at h
    simp only [List.map_append, List.mem_append]
    simp only [h, true_or, or_true]
def zckQ : List Cond → List (Nat × Nat) → Bool
  | [], _ => true
  | w :: t, q :: ps => decide ((zcq q.1)[q.2]? = some w) && zckQ t ps
  | _ :: _, [] => false
theorem zckQ_in : ∀ {ws : List Cond} {ps : List (Nat × Nat)}, zckQ ws ps = true → ∀ w ∈ ws, w ∈ lw_tbl
  | [], _, _, w, hw => absurd hw List.not_mem_nil
  | v :: t, [], h, _, _ => by simp [zckQ] at h
  | v :: t, q :: ps, h, w, hw => by
    simp only [zckQ, Bool.and_eq_true, decide_eq_true_eq] at h
    rcases List.mem_cons.mp hw with rfl | hw
    · exact zcq_in (List.mem_of_getElem? h.1)
    · exact zckQ_in h.2 w hw
theorem zq1 {w : Cond} {q : Nat × Nat} (h : zckQ [w] [q] = true) : w ∈ lw_tbl := zckQ_in h w List.mem_cons_self
theorem zck_obj {o fr lo : Nat} {ph : Bool} {i : Nat} (hfr : 1 ≤ fr) (hlo : 20 ≤ lo) (hl : Cond.methodLink (zow o) i objectInit ∈ lw_tbl) (hi : Cond.instanceMethod objectInit ∈ lw_tbl) (hc : Cond.code objectInit ⟨#[0xb1]⟩ 1 none ∈ lw_tbl) : zCk o fr lo ph (.invokespecial i) 1 X_objInit := by
  intro p l e s m args below meth c G n0 T locs σ as K E g rest hfl hx hW hKn hZz hown hX hR hP h1 h2 hXX hn hg hsize hmr hst hrest hdg
  rcases as with _ | ⟨v, _ | ⟨w, as⟩⟩
  · exact hXX.elim
  · cases v
    case ref r =>
      obtain ⟨hr0, hK⟩ := hXX
      have hst' : g.stack = .ref (zad G r) :: rest := by rw [hst, List.map_cons, zva_ref G hr0]; rfl
      obtain ⟨vm', X', st⟩ := hX.initObject hx hown (hW _ hl rfl args) (hW _ hi rfl args) (hW _ hc rfl args) hg hsize hst' hdg hfr (by rw [hmr]; show 2 * 0 + _ + 12 ≤ lo; omega)
      refine ⟨.returned none, σ, T.setVm vm', [], ⟨none, rfl, hK⟩, hR, hP, fun q hq => absurd hq List.not_mem_nil, h1, h2, by rw [List.append_nil]; exact X', st _ (Steps.refl _)⟩
    all_goals exact hXX.elim
  · cases v <;> exact hXX.elim
/-- what the tables say of a method that is called -/
abbrev zfV (y : MethodName) (b : ByteArray) (nY : Nat) (rt : Option FieldType) (k n : Nat) : Prop := Cond.code y b nY rt ∈ lw_tbl ∧ Cond.instanceMethod y ∈ lw_tbl ∧ Cond.initialized y.cls ∈ lw_tbl ∧ Cond.selects (zcn k) y y ∈ lw_tbl ∧ zpl y ∧ zna y n
abbrev zfS (y : MethodName) (b : ByteArray) (nY : Nat) (rt : Option FieldType) (n : Nat) : Prop := Cond.code y b nY rt ∈ lw_tbl ∧ Cond.static y ∈ lw_tbl ∧ Cond.initialized y.cls ∈ lw_tbl ∧ zpl y ∧ zna y n
abbrev zfI (y : MethodName) (b : ByteArray) (nY n : Nat) : Prop := Cond.code y b nY none ∈ lw_tbl ∧ Cond.instanceMethod y ∈ lw_tbl ∧ Cond.initialized y.cls ∈ lw_tbl ∧ zpl y ∧ y.name = "<init>" ∧ zna y n
section ZK
variable {o fr lo : Nat} {ph : Bool} {i n : Nat} {X : zX} {y : MethodName} {b : ByteArray} {rt : Option FieldType} {fY lY nY : Nat}
theorem zkV {k : Nat} (f : zfV y b nY rt k n) (hk : (1 ≤ k ∧ k ≤ 31) ∧ fY + 1 ≤ fr ∧ 8 + (nY + 11) + lY ≤ lo) (hOk : zOk y (.code y b nY rt) fY lY ph X) (hl : Cond.methodLink (zow o) i y ∈ lw_tbl) : zCk o fr lo ph (zik 0 i) (n + 1) (zvt ph k X) :=
  zck_V hk.1.1 hk.1.2 hOk (zcw_code f.1) (fun _ _ _ _ h1 h2 h3 => zcd_code h1 h2 h3) f.2.2.1 f.2.2.2.2.1 f.2.2.2.2.2 hk.2.1 hk.2.2 hl f.2.1 f.2.2.2.1
theorem zkVN {k : Nat} (f : zfV y b nY rt k n) (hk : (1 ≤ k ∧ k ≤ 31) ∧ fY + 1 ≤ fr ∧ 8 + (nY + 11) + lY ≤ lo) (hOk : zOk y (.code y b nY rt) fY lY ph X) (hl : Cond.methodLinkNest (zow o) i y "PackingHouse" ∈ lw_tbl) : zCk o fr lo ph (zik 0 i) (n + 1) (zvt ph k X) :=
  zck_VN hk.1.1 hk.1.2 hOk (zcw_code f.1) (fun _ _ _ _ h1 h2 h3 => zcd_code h1 h2 h3) f.2.2.1 f.2.2.2.2.1 f.2.2.2.2.2 hk.2.1 hk.2.2 hl f.2.1 f.2.2.2.1
theorem zkS (f : zfS y b nY rt n) (hk : fY + 1 ≤ fr ∧ 8 + (nY + 11) + lY ≤ lo) (hOk : zOk y (.code y b nY rt) fY lY ph X) (hl : Cond.methodLink (zow o) i y ∈ lw_tbl) : zCk o fr lo ph (zik 2 i) n X :=
  zck_S hOk (zcw_code f.1) (fun _ _ _ _ h1 h2 h3 => zcd_code h1 h2 h3) (znm_code f.1) f.2.2.1 f.2.2.2.1 f.2.2.2.2 hk.1 hk.2 hl f.2.1
theorem zkSN (f : zfS y b nY rt n) (hk : fY + 1 ≤ fr ∧ 8 + (nY + 11) + lY ≤ lo) (hOk : zOk y (.code y b nY rt) fY lY ph X) (hl : Cond.methodLinkNest (zow o) i y "PackingHouse" ∈ lw_tbl) : zCk o fr lo ph (zik 2 i) n X :=
  zck_SN hOk (zcw_code f.1) (fun _ _ _ _ h1 h2 h3 => zcd_code h1 h2 h3) (znm_code f.1) f.2.2.1 f.2.2.2.1 f.2.2.2.2 hk.1 hk.2 hl f.2.1
theorem zkI (f : zfI y b nY n) (hk : fY + 1 ≤ fr ∧ 8 + (nY + 11) + lY ≤ lo) (hOk : zOk y (.code y b nY none) fY lY ph X) (hl : Cond.methodLink (zow o) i y ∈ lw_tbl) : zCk o fr lo ph (zik 1 i) (n + 1) (znn X) :=
  zck_I hOk f.1 f.2.2.1 f.2.2.2.1 f.2.2.2.2.1 f.2.2.2.2.2 hk.1 hk.2 hl f.2.1
theorem zkIN (f : zfI y b nY n) (hk : fY + 1 ≤ fr ∧ 8 + (nY + 11) + lY ≤ lo) (hOk : zOk y (.code y b nY none) fY lY ph X) (hl : Cond.methodLinkNest (zow o) i y "PackingHouse" ∈ lw_tbl) : zCk o fr lo ph (zik 1 i) (n + 1) (znn X) :=
  zck_IN hOk f.1 f.2.2.1 f.2.2.2.1 f.2.2.2.2.1 f.2.2.2.2.2 hk.1 hk.2 hl f.2.1
end ZK

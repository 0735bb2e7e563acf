/-! PART 12: soundness of what is made, of ends -/
def zOut (G : zG) (K : zKt) (E : zEt) (o : Outcome) (σ : zS) : Prop := match o with
  | .returned v => ∃ v' : Option Value, v = v'.map (zva G) ∧ K v' σ
  | .threw a => ∃ r, a = zad G r ∧ zK r = 30 ∧ r < zn σ ∧ E r σ
/-- how a call that began at n0 cells ends -/
def zPost (G : zG) (ph : Bool) (n0 : Nat) (K : zKt) (E : zEt) (st : State) (o : Outcome) (t : State) : Prop :=
  ∃ σ : zS, zOut G K E o σ ∧ zRel G t σ t.heap ∧ zPh ph σ ∧ n0 ≤ zn σ ∧ zn σ ≤ zCap ∧ st.WarmedH t.vm ∧ ∃ L, (∀ q ∈ L, g0 G ≤ q.base) ∧ st.sameButNew ({ t with vm := st.vm } : State) L (zn σ - n0) (zsl (zn σ) - zsl n0)
def zQ (below : List Frame) (G : zG) (ph : Bool) (n0 : Nat) (K : zKt) (E : zEt) (s : State) : State → Prop := fun t => ∃ o, t.status = .running ∧ Ended t below o ∧ zPost G ph n0 K E s o t
section ZY
variable {p : Program} {l : Launch} {e : Env} {R : Room} {s : State} {m : MethodId} {args : Array Value} {below : List Frame} {meth : Method} {c : Code} {nL : Nat} {G : zG} {ph : Bool} {n0 : Nat} {Q : State → Prop} {cc : ByteArray}
theorem zW_mono {Q' : State → Prop} {H : Heap} {locs : List Loc} {cells slots : Nat} {g : JFrame} (h : ∀ t, Q t → Q' t) (w : W p l e R s m args below meth c H locs cells slots Q g) : W p l e R s m args below meth c H locs cells slots Q' g := by
  intro T hT X
  obtain ⟨t, a, b⟩ := w T hT X
  exact ⟨t, a, h t b⟩
/-- an end by a return -/
theorem zs_end {H : Heap} {locs : List Loc} {g : JFrame} {σ : zS} {K : zKt} {E : zEt} {v : Option Value} (hR : zRel G s σ H) (hP : zPh ph σ) (h1 : n0 ≤ zn σ) (h2 : zn σ ≤ zCap) (hK : K v σ)
    (w : W p l e R s m args below meth c H locs (zn σ - n0) (zsl (zn σ) - zsl n0) (MQ below (fun _ _ o t => o = .returned (v.map (zva G)) ∧ t.heap = H ∧ s.WarmedH t.vm) args s (zn σ - n0) (zsl (zn σ) - zsl n0) (fun q => g0 G ≤ q)) g) :
    W p l e R s m args below meth c H locs (zn σ - n0) (zsl (zn σ) - zsl n0) (zQ below G ph n0 K E s) g := by
  refine zW_mono (fun t h => ?_) w
  obtain ⟨o, q1, q2, ⟨rfl, q3, q4⟩, L, ⟨-, q5, q6⟩, q7⟩ := h
  exact ⟨_, q1, q2, σ, ⟨v, rfl, hK⟩, by rw [q3]; exact zRel_U q4.alike hR, hP, h1, h2, q5, L, q7, q6⟩
theorem zs_ireturn (hx : p.tables.exec = Jvm.exec) (hb : c.code = cc) (hlk : meth.locks = false) {rt : Option FieldType} (hr : meth.sig.returnType = rt) {pc : Nat} {ls : zLs} {st : List Value} {σ : zS} {K : zKt} {E : zEt} (hd : decode cc pc = .ok (.ireturn, 1))
    (h : zretI rt st σ K) : zJ p l e R s m args below meth c nL G ph n0 (zQ below G ph n0 K E s) pc ls st σ := by
  intro lsc H locs a1 a2 a3 a4 a5 a6
  rcases st with _ | ⟨v, _ | ⟨w, r⟩⟩
  · exact h.elim
  · cases v
    case int x =>
      rcases rt with _ | t
      · exact h.elim
      · cases t
        case int => exact zs_end a2 a3 a5 a6 (v := some (.int x)) h (W.iret hx hb hr (fun t ht hW => ⟨rfl, ht, hW⟩) a4 hd)
        case boolean =>
          refine zs_end a2 a3 a5 a6 (v := some (.int x)) h.2 (W.zret hx hb hr ?_ (fun t ht hW => ⟨rfl, ht, hW⟩) a4 hd)
          rcases h.1 with rfl | rfl <;> decide
        all_goals exact h.elim
    all_goals exact h.elim
  · cases v <;> exact h.elim
theorem zs_lreturn (hx : p.tables.exec = Jvm.exec) (hb : c.code = cc) (hlk : meth.locks = false) {rt : Option FieldType} (hr : meth.sig.returnType = rt) {pc : Nat} {ls : zLs} {st : List Value} {σ : zS} {K : zKt} {E : zEt} (hd : decode cc pc = .ok (.lreturn, 1))
    (h : zretL rt st σ K) : zJ p l e R s m args below meth c nL G ph n0 (zQ below G ph n0 K E s) pc ls st σ := by
  intro lsc H locs a1 a2 a3 a4 a5 a6
  rcases st with _ | ⟨v, _ | ⟨w, r⟩⟩
  · exact h.elim
  · cases v
    case long x =>
      rcases rt with _ | t
      · exact h.elim
      · cases t
        case long => exact zs_end a2 a3 a5 a6 (v := some (.long x)) h (W.lret hx hb hr (fun t ht hW => ⟨rfl, ht, hW⟩) a4 hd)
        all_goals exact h.elim
    all_goals exact h.elim
  · cases v <;> exact h.elim
theorem zs_areturn (hx : p.tables.exec = Jvm.exec) (hb : c.code = cc) (hlk : meth.locks = false) {rt : Option FieldType} (hr : meth.sig.returnType = rt) {pc : Nat} {ls : zLs} {st : List Value} {σ : zS} {K : zKt} {E : zEt} (hd : decode cc pc = .ok (.areturn, 1))
    (h : zretA rt st σ K) : zJ p l e R s m args below meth c nL G ph n0 (zQ below G ph n0 K E s) pc ls st σ := by
  intro lsc H locs a1 a2 a3 a4 a5 a6
  rcases st with _ | ⟨v, _ | ⟨w, r⟩⟩
  · exact h.elim
  · cases v
    case ref x =>
      rcases rt with _ | t
      · exact h.elim
      · cases t
        case object C =>
          refine zs_end a2 a3 a5 a6 (v := some (.ref x)) h (W.aret hx hb hr (Or.inl ⟨_, rfl⟩) ?_ (fun t ht hW => ⟨rfl, ht, hW⟩) a4 hd)
          cases x with
          | zero => exact Or.inl rfl
          | succ x => exact Or.inr ⟨_, rfl⟩
        all_goals exact h.elim
    all_goals exact h.elim
  · cases v <;> exact h.elim
theorem zs_return (hx : p.tables.exec = Jvm.exec) (hb : c.code = cc) (hlk : meth.locks = false) {rt : Option FieldType} (hr : meth.sig.returnType = rt) {pc : Nat} {ls : zLs} {st : List Value} {σ : zS} {K : zKt} {E : zEt} (hd : decode cc pc = .ok (.return_, 1))
    (h : zretV rt st σ K) : zJ p l e R s m args below meth c nL G ph n0 (zQ below G ph n0 K E s) pc ls st σ := by
  intro lsc H locs a1 a2 a3 a4 a5 a6
  rcases st with _ | ⟨v, r⟩
  · cases rt with
    | none => exact zs_end a2 a3 a5 a6 (v := none) h (W.vret hx hb hr (fun t ht hW => ⟨rfl, ht, hW⟩) a4 hd)
    | some t => exact h.elim
  · exact h.elim
/-- an end by an exception that no handler of the method takes -/
theorem zs_leave {T : State} {H : Heap} {locs : List Loc} {g : JFrame} {σ : zS} {K : zKt} {E : zEt} {a : Nat} (hT : T.heap = H) (X : Stand p l e R s m args below meth c T locs (zn σ - n0) (zsl (zn σ) - zsl n0)) (hR : zRel G s σ H) (hP : zPh ph σ) (h1 : n0 ≤ zn σ) (h2 : zn σ ≤ zCap) (hL : ∀ q ∈ locs, g0 G ≤ q.base) (hk : zK a = 30) (ha : a < zn σ) (hE : E a σ)
    (hlk : meth.locks = false) (hg : g.method = m) (hlocked : g.locked = none) (hentered : g.entered = []) (hout : ∀ x ∈ c.exceptionTable.toList, covers x g.pc = false) :
    ∃ t, Steps p.tables e below ((T.setTop g).pushFrame (.throwing (zad G a))) t ∧ zQ below G ph n0 K E s t := by
  obtain ⟨hw, q1, q2, q3, q4⟩ := X.leaveThrown (zad G a) (g := g) hg hlocked hentered hout
  refine ⟨_, hw, .threw (zad G a), q1, q2, σ, ⟨a, rfl, hk, ha, hE⟩, ?_, hP, h1, h2, q3, locs, hL, q4⟩
  show zRel G _ σ T.heap
  rw [hT]
  exact zRel_U q3.alike hR
theorem zs_athrow (hx : p.tables.exec = Jvm.exec) (hb : c.code = cc) (hlk : meth.locks = false) {pc : Nat} {ls : zLs} {r : List Value} {σ : zS} {K : zKt} {E : zEt} {a : Nat} (hd : decode cc pc = .ok (.athrow, 1)) (hout : ∀ x ∈ c.exceptionTable.toList, covers x pc = false)
    (hk : zK a = 30) (ha : a < zn σ) (hE : E a σ) : zJ p l e R s m args below meth c nL G ph n0 (zQ below G ph n0 K E s) pc ls (.ref a :: r) σ := by
  intro lsc H locs a1 a2 a3 a4 a5 a6 T hT X
  have h0 : a ≠ 0 := by intro e; subst e; exact absurd hk (by decide)
  obtain ⟨hw, q1, q2, q3, q4⟩ := X.athrowLeaves hx (g := F0 m pc lsc ((Value.ref a :: r).map (zva G))) rfl rfl rfl hout (a := zad G a) (rest := r.map (zva G)) (by show zva G (.ref a) :: _ = _; rw [zva_ref G h0]) (by rw [hb]; exact hd)
  refine ⟨_, hw, .threw (zad G a), q1, q2, σ, ⟨a, rfl, hk, ha, hE⟩, ?_, a3, a5, a6, q3, locs, a4, q4⟩
  show zRel G _ σ T.heap
  rw [hT]
  exact zRel_U q3.alike a2
end ZY

/-! C: a fun makes an object -/
set_option maxRecDepth 20000
section
variable {ρ : Nat → Nat} {d : Nat} {Q : QT} {Γ Γ' : GH} {h h' h1 h2 H : ah} {C ho k i j N M a z s r f o c t n mn m0 rr sk rk l cd ar nv np E va ma mk ck jm vs fm po fn pp tn wi : Nat} {g : HG} {v w hd ty κ nm x y x1 nw ac p u : Int} {S S' S1 : SS} {X X' X1 X2 : X3} {Y Y' Y1 Y2 : Y3} {b : Bool} {tg wd : Nat → Int} {L : List Nat} {fi ca m q : Int} {ws : List (List Int)} {l1 : List Int}
theorem FWI.ex : ∃ v, FWI ws l1 v := by
  by_cases c : l1 ∈ ws
  · obtain ⟨k, hk, e⟩ := List.mem_iff_getElem.mp c
    exact ⟨(k : Int), Or.inl ⟨k, rfl, hk, by rw [List.getD_eq_getElem?_getD, List.getElem?_eq_getElem hk]; exact e⟩⟩
  · exact ⟨-1, Or.inr ⟨rfl, c⟩⟩
theorem HLD.ex : ∀ j p, pcS S j p < 0 → ∃ v, HLD S nm j p v
  | 0, p, hp => ⟨-1, hp, rfl⟩
  | j + 1, p, hp => by
    by_cases c : p < 0
    · exact ⟨-1, Or.inl ⟨c, rfl⟩⟩
    · have hp' : pcS S j (prS S p.toNat) < 0 := by
        unfold pcS at hp
        rw [if_neg c] at hp
        exact hp
      by_cases w : OWs S p.toNat nm
      · exact ⟨p, Or.inr ⟨by omega, Or.inl ⟨w, rfl⟩⟩⟩
      · obtain ⟨v, hv⟩ := HLD.ex j _ hp'
        exact ⟨v, Or.inr ⟨by omega, Or.inr ⟨w, hv⟩⟩⟩
theorem HLD.pv (wf : ∀ k : Nat, (k : Int) < S f_Md_things 0 → S f_Md_thingKind k = 4 ∨ S f_Md_thingKind k = 5 → prS S k = -1 ∨ (0 ≤ prS S k ∧ prS S k < S f_Md_things 0 ∧ (S f_Md_thingKind (prS S k).toNat = 4 ∨ S f_Md_thingKind (prS S k).toNat = 5))) : ∀ j p v, PVL S p → HLD S nm j p v → v = -1 ∨ (0 ≤ v ∧ v < S f_Md_things 0 ∧ (S f_Md_thingKind v.toNat = 4 ∨ S f_Md_thingKind v.toNat = 5) ∧ OWs S v.toNat nm)
  | 0, p, v, _, hv => Or.inl hv.2
  | j + 1, p, v, hp, hv => by
    rcases hv with ⟨-, e⟩ | ⟨p0, ⟨w, e⟩ | ⟨w, hv⟩⟩
    · exact Or.inl e
    · rcases hp with c | ⟨c1, c2, c3⟩
      · omega
      · subst e; exact Or.inr ⟨c1, c2, c3, w⟩
    · exact HLD.pv wf j _ v (PVL.of wf p0 hp) hv
/-- the prototype of what fun k makes: T finds p -/
theorem PRE.of (HC : CORE Γ h C ho X Y S N) (NM : NMR h C S ws) (fw : FWI ws xPRO nm) (hk : (k : Int) < S f_Md_things 0) (kd : S f_Md_thingKind k = 4 ∨ S f_Md_thingKind k = 5) (cs : (nm < 0 ∧ p = -1) ∨ (0 ≤ nm ∧ ∃ j u, HLD S nm j (k : Int) u ∧ ((u < 0 ∧ p = -1) ∨ (0 ≤ u ∧ ∃ n wi : Nat, S f_Md_thingCount u.toNat = (n : Int) ∧ wi < n ∧ nmT S u.toNat wi = nm ∧ p = PRV S u.toNat wi)))) : PRE ρ g N M S k p := by
  obtain ⟨tn, sn, sm', d1, d2, d5, d6', d3, d4, d6, d7, d8, U, m1, m2, m3, m4⟩ := HC.shp
  have wf := prS_wf d1 d7 d8
  rcases cs with ⟨c, rfl⟩ | ⟨c, j, u, hl, ⟨c2, rfl⟩ | ⟨c2, n, wi, e1, e2, e3, rfl⟩⟩
  · have : nm = -1 := by
      rcases fw with ⟨k, e, -⟩ | ⟨e, -⟩
      · omega
      · exact e
    subst this
    exact PRE.none NM fw
  · exact PRE.fnd HC NM fw c hk (by omega) kd hl (fun _ => rfl) (fun z => absurd c2 (by omega))
  · refine PRE.fnd HC NM fw c hk (by omega) kd hl (fun z => absurd c2 (by omega)) (fun _ n' wi' a1 a2 a3 => ?_)
    have hu := HLD.pv wf j _ u (Or.inr ⟨by omega, hk, by rw [Int.toNat_natCast]; exact kd⟩) hl
    obtain ⟨u1, u2, u3, -⟩ := hu.resolve_left (fun e => by omega)
    obtain ⟨nn, _, _, -, L, -, -, -, -, -, un, -⟩ := HC.sth (k := u.toNat) (by omega) u3
    have en := L.2.2.1
    have : wi' = wi := un wi' wi (by omega) (by omega) (by rw [a3, e3])
    subst this
    refine ⟨fun ty => ?_, rfl⟩
    have V := ((d7 u.toNat (by omega)).p.2.1.2.2.2.1 wi' (by omega)).2
    rcases V.2.2 with z | z | z | z | z | z <;> omega
theorem PRE.ex (HC : CORE Γ h C ho X Y S N) (NM : NMR h C S ws) (hk : (k : Int) < S f_Md_things 0) (kd : S f_Md_thingKind k = 4 ∨ S f_Md_thingKind k = 5) : ∃ p, PRE ρ g N M S k p := by
  obtain ⟨tn, sn, sm', d1, d2, d5, d6', d3, d4, d6, d7, d8, U, m1, m2, m3, m4⟩ := HC.shp
  have wf := prS_wf d1 d7 d8
  obtain ⟨nm, fw⟩ := FWI.ex (ws := ws) (l1 := xPRO)
  by_cases c : nm < 0
  · exact ⟨-1, PRE.of HC NM fw hk kd (Or.inl ⟨c, rfl⟩)⟩
  · have AY : ACY S := by obtain ⟨_, _, _, _, _, _, _, _, _, _, _, _, a⟩ := HC.2.2.2.2.2.2.2.2.2.1; exact a.2
    obtain ⟨j, hj⟩ := AY k hk kd
    obtain ⟨u, hu⟩ := HLD.ex (nm := nm) j _ hj
    rcases HLD.pv wf j _ u (Or.inr ⟨by omega, hk, by rw [Int.toNat_natCast]; exact kd⟩) hu with e | ⟨u1, u2, u3, n, en, wi, h1, h2⟩
    · exact ⟨-1, PRE.of HC NM fw hk kd (Or.inr ⟨by omega, j, u, hu, Or.inl ⟨by omega, rfl⟩⟩)⟩
    · exact ⟨_, PRE.of HC NM fw hk kd (Or.inr ⟨by omega, j, u, hu, Or.inr ⟨u1, n, wi, en, h1, h2, rfl⟩⟩)⟩
end

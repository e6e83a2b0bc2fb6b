/-! the reader of hosts, as functions: members, classes, all -/
set_option maxRecDepth 20000
/-- the type that a name tells, or none -/
def tyV (g : HG) (n : Nat) (l : List Int) : Option Int := if 0 ≤ plc plainW l then some (plc plainW l) else match idxN g n l with
  | some i => some (9 + (i : Int))
  | none => none
noncomputable def rdPars (tp : List Int) (g : HG) (n : Nat) : Nat → List Int → TKN → FLT ⊕ (List Int × Int × TKN)
  | 0, _, _ => Sum.inl (0, 0)
  | f + 1, ps, t =>
    if ¬ t.2.1 = 1 then Sum.inl (1, t.1) else
    match tyV g n (tkB tp t) with
    | none => Sum.inl (3, t.1)
    | some k => if k = 0 then Sum.inl (3, t.1) else if ps.length = 8 then Sum.inl (5, t.1) else
      if (nx tp 1 t).2.1 = 136 then (if (nx tp 1 (nx tp 1 t)).2.1 = 41 then Sum.inr (ps ++ [k], 1, nx tp 1 (nx tp 1 t)) else Sum.inl (1, (nx tp 1 (nx tp 1 t)).1)) else
      if (nx tp 1 t).2.1 = 44 then rdPars tp g n f (ps ++ [k]) (nx tp 1 (nx tp 1 t)) else
      if (nx tp 1 t).2.1 = 41 then Sum.inr (ps ++ [k], 0, nx tp 1 t) else Sum.inl (1, (nx tp 1 t).1)
noncomputable def rdPar0 (tp : List Int) (g : HG) (n : Nat) (t : TKN) : FLT ⊕ (List Int × Int × TKN) := if t.2.1 = 41 then Sum.inr ([], 0, t) else rdPars tp g n (tp.length + 1) [] t
/-- a member more of the last class -/
def gMem (g : HG) (c m : Nat) (so st ty va : Int) (ps nm : List Int) : HG :=
  ((fun a b => if b = m then (if a = 5 then (c : Int) else if a = 6 then so else if a = 7 then st else if a = 8 then ty else if a = 9 then va else if a = 4 ∧ b = c then g.1 4 c + 1 else g.1 a b) else if a = 4 ∧ b = c then g.1 4 c + 1 else g.1 a b),
   (fun a b => if b = m ∧ a = 2 then ps else if b = m ∧ a = 3 then nm else g.2 a b))
/-- a field of that name, or a member of that kind, name and types is there -/
def hasF (g : HG) (c m : Nat) (nm : List Int) : Prop := ∃ j, (g.1 3 c).toNat ≤ j ∧ j < m ∧ g.1 6 j = 0 ∧ g.2 3 j = nm
def hasM (g : HG) (c m : Nat) (so : Int) (nm ps : List Int) : Prop := ∃ j, (g.1 3 c).toNat ≤ j ∧ j < m ∧ g.1 6 j = so ∧ g.2 3 j = nm ∧ g.2 2 j = ps
def wSta : List Int := [115, 116, 97, 116, 105, 99]
def wNew : List Int := [110, 101, 119]
/-- parameters and the end of a member -/
noncomputable def rdMem2 (tp : List Int) (g : HG) (n c m : Nat) (so st ty : Int) (nm : List Int) (t : TKN) : FLT ⊕ (HG × TKN) :=
  match rdPar0 tp g n t with
  | Sum.inl e => Sum.inl e
  | Sum.inr (ps, va, t4) => @ite _ (hasM g c m so nm ps) (Classical.propDecidable _) (Sum.inl (7, t4.1)) (if ¬ (nx tp 1 t4).2.1 = 59 then Sum.inl (1, (nx tp 1 t4).1) else Sum.inr (gMem g c m so st ty va ps nm, nx tp 1 (nx tp 1 t4)))
/-- behind what a member begins with: t is its type, or new -/
noncomputable def rdMem1 (tp : List Int) (g : HG) (n c m : Nat) (st : Int) (t : TKN) : FLT ⊕ (HG × TKN) :=
  if ¬ t.2.1 = 1 then Sum.inl (1, t.1) else
  if tkB tp t = wNew then
    (if ¬ st = 0 then Sum.inl (1, t.1) else if m = 400 then Sum.inl (5, t.1) else if ¬ g.1 1 c = 0 then Sum.inl (6, t.1) else
     if ¬ (nx tp 1 t).2.1 = 40 then Sum.inl (1, (nx tp 1 t).1) else rdMem2 tp g n c m 2 st (9 + (c : Int)) [] (nx tp 1 (nx tp 1 t)))
  else match tyV g n (tkB tp t) with
  | none => Sum.inl (3, t.1)
  | some ty => if m = 400 then Sum.inl (5, t.1) else
    if ¬ (nx tp 1 t).2.1 = 1 then Sum.inl (1, (nx tp 1 t).1) else
    @ite _ (resv (tkB tp (nx tp 1 t))) (Classical.propDecidable _) (Sum.inl (2, (nx tp 1 t).1))
    (if (nx tp 1 (nx tp 1 t)).2.1 = 59 ∧ ¬ ty = 0 then
      @ite _ (hasF g c m (tkB tp (nx tp 1 t))) (Classical.propDecidable _) (Sum.inl (2, (nx tp 1 t).1)) (if ¬ g.1 1 c = 0 then Sum.inl (6, (nx tp 1 t).1) else Sum.inr (gMem g c m 0 st ty 0 [] (tkB tp (nx tp 1 t)), nx tp 1 (nx tp 1 (nx tp 1 t))))
     else if ¬ (nx tp 1 (nx tp 1 t)).2.1 = 40 then Sum.inl (1, (nx tp 1 (nx tp 1 t)).1) else rdMem2 tp g n c m 1 st ty (tkB tp (nx tp 1 t)) (nx tp 1 (nx tp 1 (nx tp 1 t))))
noncomputable def rdMem (tp : List Int) (g : HG) (n c m : Nat) (t : TKN) : FLT ⊕ (HG × TKN) :=
  if ¬ t.2.1 = 1 then Sum.inl (1, t.1) else
  if tkB tp t = wSta then (if ¬ g.1 1 c = 0 then Sum.inl (6, t.1) else rdMem1 tp g n c m 1 (nx tp 1 t)) else rdMem1 tp g n c m 0 t
/-- members up to a bracket -/
noncomputable def rdMems (tp : List Int) (n c : Nat) : Nat → HG → Nat → TKN → FLT ⊕ (HG × Nat × TKN)
  | 0, _, _, _ => Sum.inl (0, 0)
  | f + 1, g, m, t => if t.2.1 = 125 then Sum.inr (g, m, t) else match rdMem tp g n c m t with
    | Sum.inl e => Sum.inl e
    | Sum.inr (g', t') => rdMems tp n c f g' (m + 1) t'
/-- a class more -/
def gCls (g : HG) (n m : Nat) (nm : List Int) (iF : Int) : HG :=
  ((fun a b => if a = 100 + n then (if b = n then 1 else 0) else if b = n then (if a = 1 then iF else if a = 2 then -1 else if a = 3 then (m : Int) else if a = 4 then 0 else if a = 10 then 0 else g.1 a b) else g.1 a b), (fun a b => if b = n ∧ a = 0 then nm else if b = n ∧ a = 1 then [] else g.2 a b))
/-- what a static field has at first -/
def tgO (ty : Int) : Int := if ty = 1 ∨ ty = 2 then 2 else if ty = 3 then 1 else 0
/-- a class that was read is settled -/
def gSet (g : HG) (c : Nat) : HG := ((fun a b => if a = 10 ∧ b = c then 1 else if a = 11 ∧ (g.1 3 c).toNat ≤ b ∧ b < (g.1 3 c).toNat + (g.1 4 c).toNat then 0 else if a = 12 ∧ (g.1 3 c).toNat ≤ b ∧ b < (g.1 3 c).toNat + (g.1 4 c).toNat then tgO (g.1 8 b) else g.1 a b), g.2)
/-- one class, from its name on -/
noncomputable def rdCls (tp : List Int) (g : HG) (n m : Nat) (iF : Int) (t : TKN) : FLT ⊕ (HG × Nat × TKN) :=
  if ¬ t.2.1 = 1 then Sum.inl (1, t.1) else
  @ite _ (resv (tkB tp t) ∨ ∃ i, i < n ∧ g.2 0 i = tkB tp t) (Classical.propDecidable _) (Sum.inl (2, t.1)) (if n = 60 then Sum.inl (5, t.1) else
  match (if (nx tp 1 t).2.1 = 58 then rdSups tp n (tp.length + 1) (gCls g n m (tkB tp t) iF) (nx tp 1 t) else Sum.inr (gCls g n m (tkB tp t) iF, nx tp 1 t)) with
  | Sum.inl e => Sum.inl e
  | Sum.inr (g1, t1) => if ¬ t1.2.1 = 123 then Sum.inl (1, t1.1) else match rdMems tp (n + 1) n (tp.length + 1) g1 m (nx tp 1 t1) with
    | Sum.inl e => Sum.inl e
    | Sum.inr (g2, m2, t2) => Sum.inr (gSet g2 n, m2, nx tp 1 t2))
def wIfc : List Int := [105, 110, 116, 101, 114, 102, 97, 99, 101]
def wCls : List Int := [99, 108, 97, 115, 115]
/-- all -/
noncomputable def rdAll (tp : List Int) : Nat → HG → Nat → Nat → TKN → FLT ⊕ (HG × Nat × Nat)
  | 0, _, _, _, _ => Sum.inl (0, 0)
  | f + 1, g, n, m, t => if t.2.1 = 0 then Sum.inr (g, n, m) else
    if ¬ (t.2.1 = 1 ∧ (tkB tp t = wIfc ∨ tkB tp t = wCls)) then Sum.inl (1, t.1) else
    match rdCls tp g n m (if tkB tp t = wIfc then 1 else 0) (nx tp 1 t) with
    | Sum.inl e => Sum.inl e
    | Sum.inr (g', m', t') => rdAll tp f g' (n + 1) m' t'
noncomputable def rdHost (tp : List Int) : FLT ⊕ (HG × Nat × Nat) := rdAll tp (tp.length + 1) ((fun _ _ => 0), (fun _ _ => [])) 0 0 (nx tp 1 (0, 0, 0, 0, []))

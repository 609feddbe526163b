/-! printed by wip/gen/emit_law.py: the law's own body -/
set_option maxRecDepth 100000
noncomputable def fL_law_l23 (v0 : Nat) (v1 : Nat) (v2 : Nat) (v3 : Nat) (v4 : Int32) (g : AH) : Option ((Nat × Nat × Nat × Nat × Int32 × AH) ⊕ (AH ⊕ (Int32 × AH))) :=
  (xscl g v0).bind fun x9 =>
  if (x9 - (6 : Int32)) < v4 then (
    some (Sum.inr (Sum.inl g)))
  else (
    (xsca g v0 v4).bind fun x10 =>
    if (x10 &&& (63 : Int32)) = 0 then (
      (xsca g v0 (v4 + (1 : Int32))).bind fun x11 =>
      (xsca g v0 (v4 + (2 : Int32))).bind fun x12 =>
      (xsca g v0 (v4 + (3 : Int32))).bind fun x13 =>
      (xsca g v0 (v4 + (4 : Int32))).bind fun x14 =>
      (xsca g v0 (v4 + (5 : Int32))).bind fun x15 =>
      xb2 (xck g v1 1 (fC_feed v1 x11 x12 x13 x14 x15 g)) fun x16 g17 =>
      (xsca g17 v0 (v4 + (1 : Int32))).bind fun x18 =>
      (xsca g17 v0 (v4 + (2 : Int32))).bind fun x19 =>
      (xsca g17 v0 (v4 + (3 : Int32))).bind fun x20 =>
      (xsca g17 v0 (v4 + (4 : Int32))).bind fun x21 =>
      (xsca g17 v0 (v4 + (5 : Int32))).bind fun x22 =>
      xb2 (xck g17 v2 14 (fM_feed v2 x18 x19 x20 x21 x22 g17)) fun x23 g24 =>
      if x16 = x23 then (
        some (Sum.inl (v0, v1, v2, v3, (v4 + 6), g24)))
      else (
        some (Sum.inr (Sum.inr (((0 : Int32), g24))))))
    else (
    if (x10 &&& (63 : Int32)) = 1 then (
      (xsca g v0 (v4 + (1 : Int32))).bind fun x25 =>
      xb2 (xck g v1 1 (fC_end v1 x25 g)) fun x26 g27 =>
      (xsca g27 v0 (v4 + (1 : Int32))).bind fun x28 =>
      xb2 (xck g27 v2 14 (fM_end v2 x28 g27)) fun x29 g30 =>
      if x26 = x29 then (
        some (Sum.inl (v0, v1, v2, v3, (v4 + 6), g30)))
      else (
        some (Sum.inr (Sum.inr (((0 : Int32), g30))))))
    else (
    if (x10 &&& (63 : Int32)) = 2 then (
      xb2 (xck g v1 1 (fC_law v1 g)) fun x31 g32 =>
      xb2 (xck g32 v2 14 (fM_law v2 g32)) fun x33 g34 =>
      if x31 = x33 then (
        some (Sum.inl (v0, v1, v2, v3, (v4 + 6), g34)))
      else (
        some (Sum.inr (Sum.inr (((0 : Int32), g34))))))
    else (
    if (x10 &&& (63 : Int32)) = 3 then (
      (xck g v1 1 (fC_fault v1 g)).bind fun x35 =>
      xb2 (xck g v2 14 (fM_fault v2 g)) fun x36 g37 =>
      if x35 = x36 then (
        some (Sum.inl (v0, v1, v2, v3, (v4 + 6), g37)))
      else (
        some (Sum.inr (Sum.inr (((0 : Int32), g37))))))
    else (
    if (x10 &&& (63 : Int32)) = 4 then (
      (xsca g v0 (v4 + (1 : Int32))).bind fun x38 =>
      (xsca g v0 (v4 + (2 : Int32))).bind fun x39 =>
      xb2 (fLw_who v1 x38 x39 v3 g) fun x40 g41 =>
      (xsca g41 v0 (v4 + (1 : Int32))).bind fun x42 =>
      (xsca g41 v0 (v4 + (2 : Int32))).bind fun x43 =>
      xb2 (xck g41 v2 14 (fM_who v2 x42 x43 g41)) fun x44 g45 =>
      (xck g45 v2 14 (fM_thrown v2 g45)).bind fun x46 =>
      if x46 = x40 then (
        if x40 = 0 then (
          (xaj g45 v3 (0 : Int32)).bind fun x47 =>
          if (lg_cmp x47 (Int32.toInt64 x44)) = 0 then (
            some (Sum.inl (v0, v1, v2, v3, (v4 + 6), g45)))
          else (
            some (Sum.inr (Sum.inr (((0 : Int32), g45))))))
        else (
          some (Sum.inl (v0, v1, v2, v3, (v4 + 6), g45))))
      else (
        some (Sum.inr (Sum.inr (((0 : Int32), g45))))))
    else (
    if (x10 &&& (63 : Int32)) = 5 then (
      (xsca g v0 (v4 + (1 : Int32))).bind fun x48 =>
      (xsca g v0 (v4 + (2 : Int32))).bind fun x49 =>
      xb2 (fLw_mint v1 x48 x49 v3 g) fun x50 g51 =>
      (xsca g51 v0 (v4 + (1 : Int32))).bind fun x52 =>
      (xsca g51 v0 (v4 + (2 : Int32))).bind fun x53 =>
      xb2 (xck g51 v2 14 (fM_mint v2 x52 x53 g51)) fun x54 g55 =>
      (xck g55 v2 14 (fM_thrown v2 g55)).bind fun x56 =>
      if x56 = x50 then (
        if x50 = 0 then (
          (xaj g55 v3 (0 : Int32)).bind fun x57 =>
          if (lg_cmp x57 (Int32.toInt64 x54)) = 0 then (
            some (Sum.inl (v0, v1, v2, v3, (v4 + 6), g55)))
          else (
            some (Sum.inr (Sum.inr (((0 : Int32), g55))))))
        else (
          some (Sum.inl (v0, v1, v2, v3, (v4 + 6), g55))))
      else (
        some (Sum.inr (Sum.inr (((0 : Int32), g55))))))
    else (
    if (x10 &&& (63 : Int32)) = 6 then (
      (xsca g v0 (v4 + (1 : Int32))).bind fun x58 =>
      (xsca g v0 (v4 + (2 : Int32))).bind fun x59 =>
      (xsca g v0 (v4 + (3 : Int32))).bind fun x60 =>
      xb2 (xck g v1 1 (fC_coin v1 x58 x59 x60 g)) fun x61 g62 =>
      (xsca g62 v0 (v4 + (1 : Int32))).bind fun x63 =>
      (xsca g62 v0 (v4 + (2 : Int32))).bind fun x64 =>
      (xsca g62 v0 (v4 + (3 : Int32))).bind fun x65 =>
      xb2 (xck g62 v2 14 (fM_coin v2 x63 x64 x65 g62)) fun x66 g67 =>
      if x61 = x66 then (
        some (Sum.inl (v0, v1, v2, v3, (v4 + 6), g67)))
      else (
        some (Sum.inr (Sum.inr (((0 : Int32), g67))))))
    else (
    if (x10 &&& (63 : Int32)) = 7 then (
      (xsca g v0 (v4 + (1 : Int32))).bind fun x68 =>
      (xsca g v0 (v4 + (2 : Int32))).bind fun x69 =>
      xb2 (fLw_of v1 x68 x69 v3 g) fun x70 g71 =>
      (xsca g71 v0 (v4 + (1 : Int32))).bind fun x72 =>
      (xsca g71 v0 (v4 + (2 : Int32))).bind fun x73 =>
      xb2 (xck g71 v2 14 (fM_of v2 x72 x73 g71)) fun x74 g75 =>
      (xck g75 v2 14 (fM_thrown v2 g75)).bind fun x76 =>
      if x76 = x70 then (
        if x70 = 0 then (
          (xaj g75 v3 (0 : Int32)).bind fun x77 =>
          if (lg_cmp x77 (Int32.toInt64 x74)) = 0 then (
            some (Sum.inl (v0, v1, v2, v3, (v4 + 6), g75)))
          else (
            some (Sum.inr (Sum.inr (((0 : Int32), g75))))))
        else (
          some (Sum.inl (v0, v1, v2, v3, (v4 + 6), g75))))
      else (
        some (Sum.inr (Sum.inr (((0 : Int32), g75))))))
    else (
    if (x10 &&& (63 : Int32)) = 8 then (
      (xsca g v0 (v4 + (1 : Int32))).bind fun x78 =>
      (xsca g v0 (v4 + (2 : Int32))).bind fun x79 =>
      (xsca g v0 (v4 + (3 : Int32))).bind fun x80 =>
      (xck g v1 1 (fC_face v1 x78 x79 x80 g)).bind fun x81 =>
      (xsca g v0 (v4 + (1 : Int32))).bind fun x82 =>
      (xsca g v0 (v4 + (2 : Int32))).bind fun x83 =>
      (xsca g v0 (v4 + (3 : Int32))).bind fun x84 =>
      xb2 (xck g v2 14 (fM_face v2 x82 x83 x84 g)) fun x85 g86 =>
      if x81 = x85 then (
        some (Sum.inl (v0, v1, v2, v3, (v4 + 6), g86)))
      else (
        some (Sum.inr (Sum.inr (((0 : Int32), g86))))))
    else (
    if (x10 &&& (63 : Int32)) = 9 then (
      (xsca g v0 (v4 + (1 : Int32))).bind fun x87 =>
      (xsca g v0 (v4 + (2 : Int32))).bind fun x88 =>
      (xsca g v0 (v4 + (3 : Int32))).bind fun x89 =>
      (xck g v1 1 (fC_value v1 x87 x88 x89 g)).bind fun x90 =>
      (xsca g v0 (v4 + (1 : Int32))).bind fun x91 =>
      (xsca g v0 (v4 + (2 : Int32))).bind fun x92 =>
      (xsca g v0 (v4 + (3 : Int32))).bind fun x93 =>
      xb2 (xck g v2 14 (fM_value v2 x91 x92 x93 g)) fun x94 g95 =>
      if x90 = x94 then (
        some (Sum.inl (v0, v1, v2, v3, (v4 + 6), g95)))
      else (
        some (Sum.inr (Sum.inr (((0 : Int32), g95))))))
    else (
    if (x10 &&& (63 : Int32)) = 10 then (
      (xck g v1 1 (fC_luck v1 g)).bind fun x96 =>
      xb2 (xck g v2 14 (fM_luck v2 g)) fun x97 g98 =>
      if x96 = x97 then (
        some (Sum.inl (v0, v1, v2, v3, (v4 + 6), g98)))
      else (
        some (Sum.inr (Sum.inr (((0 : Int32), g98))))))
    else (
    if (x10 &&& (63 : Int32)) = 11 then (
      (xsca g v0 (v4 + (1 : Int32))).bind fun x99 =>
      (xsca g v0 (v4 + (2 : Int32))).bind fun x100 =>
      (xck g v1 1 (fC_bears v1 x99 x100 g)).bind fun x101 =>
      (xsca g v0 (v4 + (1 : Int32))).bind fun x102 =>
      (xsca g v0 (v4 + (2 : Int32))).bind fun x103 =>
      xb2 (xck g v2 14 (fM_bears v2 x102 x103 g)) fun x104 g105 =>
      if x101 = x104 then (
        some (Sum.inl (v0, v1, v2, v3, (v4 + 6), g105)))
      else (
        some (Sum.inr (Sum.inr (((0 : Int32), g105))))))
    else (
    if (x10 &&& (63 : Int32)) = 12 then (
      (xsca g v0 (v4 + (1 : Int32))).bind fun x106 =>
      (xsca g v0 (v4 + (2 : Int32))).bind fun x107 =>
      (xsca g v0 (v4 + (3 : Int32))).bind fun x108 =>
      (xsca g v0 (v4 + (4 : Int32))).bind fun x109 =>
      xb2 (xck g v1 1 (fC_sale v1 x106 x107 x108 x109 g)) fun x110 g111 =>
      (xsca g111 v0 (v4 + (1 : Int32))).bind fun x112 =>
      (xsca g111 v0 (v4 + (2 : Int32))).bind fun x113 =>
      (xsca g111 v0 (v4 + (3 : Int32))).bind fun x114 =>
      (xsca g111 v0 (v4 + (4 : Int32))).bind fun x115 =>
      xb2 (xck g111 v2 14 (fM_sale v2 x112 x113 x114 x115 g111)) fun x116 g117 =>
      if x110 = x116 then (
        some (Sum.inl (v0, v1, v2, v3, (v4 + 6), g117)))
      else (
        some (Sum.inr (Sum.inr (((0 : Int32), g117))))))
    else (
    if (x10 &&& (63 : Int32)) = 13 then (
      (xck g v1 1 (fC_sales v1 g)).bind fun x118 =>
      xb2 (xck g v2 14 (fM_sales v2 g)) fun x119 g120 =>
      if x118 = x119 then (
        some (Sum.inl (v0, v1, v2, v3, (v4 + 6), g120)))
      else (
        some (Sum.inr (Sum.inr (((0 : Int32), g120))))))
    else (
    if (x10 &&& (63 : Int32)) = 14 then (
      (xsca g v0 (v4 + (1 : Int32))).bind fun x121 =>
      (xsca g v0 (v4 + (2 : Int32))).bind fun x122 =>
      xb2 (fLw_sold v1 x121 x122 v3 g) fun x123 g124 =>
      (xsca g124 v0 (v4 + (1 : Int32))).bind fun x125 =>
      (xsca g124 v0 (v4 + (2 : Int32))).bind fun x126 =>
      xb2 (xck g124 v2 14 (fM_sold v2 x125 x126 g124)) fun x127 g128 =>
      (xck g128 v2 14 (fM_thrown v2 g128)).bind fun x129 =>
      if x129 = x123 then (
        if x123 = 0 then (
          (xaj g128 v3 (0 : Int32)).bind fun x130 =>
          if (lg_cmp x130 (Int32.toInt64 x127)) = 0 then (
            some (Sum.inl (v0, v1, v2, v3, (v4 + 6), g128)))
          else (
            some (Sum.inr (Sum.inr (((0 : Int32), g128))))))
        else (
          some (Sum.inl (v0, v1, v2, v3, (v4 + 6), g128))))
      else (
        some (Sum.inr (Sum.inr (((0 : Int32), g128))))))
    else (
    if (x10 &&& (63 : Int32)) = 15 then (
      (xsca g v0 (v4 + (1 : Int32))).bind fun x131 =>
      (xsca g v0 (v4 + (2 : Int32))).bind fun x132 =>
      (xsca g v0 (v4 + (3 : Int32))).bind fun x133 =>
      (xsca g v0 (v4 + (4 : Int32))).bind fun x134 =>
      xb2 (xck g v1 1 (fC_payment v1 x131 x132 x133 x134 g)) fun x135 g136 =>
      (xsca g136 v0 (v4 + (1 : Int32))).bind fun x137 =>
      (xsca g136 v0 (v4 + (2 : Int32))).bind fun x138 =>
      (xsca g136 v0 (v4 + (3 : Int32))).bind fun x139 =>
      (xsca g136 v0 (v4 + (4 : Int32))).bind fun x140 =>
      xb2 (xck g136 v2 14 (fM_payment v2 x137 x138 x139 x140 g136)) fun x141 g142 =>
      if x135 = x141 then (
        some (Sum.inl (v0, v1, v2, v3, (v4 + 6), g142)))
      else (
        some (Sum.inr (Sum.inr (((0 : Int32), g142))))))
    else (
    if (x10 &&& (63 : Int32)) = 16 then (
      (xsca g v0 (v4 + (1 : Int32))).bind fun x143 =>
      (xck g v1 1 (fC_paid v1 x143 g)).bind fun x144 =>
      (xsca g v0 (v4 + (1 : Int32))).bind fun x145 =>
      xb2 (xck g v2 14 (fM_paid v2 x145 g)) fun x146 g147 =>
      if x144 = x146 then (
        some (Sum.inl (v0, v1, v2, v3, (v4 + 6), g147)))
      else (
        some (Sum.inr (Sum.inr (((0 : Int32), g147))))))
    else (
    if (x10 &&& (63 : Int32)) = 17 then (
      (xsca g v0 (v4 + (1 : Int32))).bind fun x148 =>
      (xsca g v0 (v4 + (2 : Int32))).bind fun x149 =>
      (xsca g v0 (v4 + (3 : Int32))).bind fun x150 =>
      (xsca g v0 (v4 + (4 : Int32))).bind fun x151 =>
      xb2 (xck g v1 1 (fC_buy v1 x148 x149 x150 x151 g)) fun x152 g153 =>
      (xsca g153 v0 (v4 + (1 : Int32))).bind fun x154 =>
      (xsca g153 v0 (v4 + (2 : Int32))).bind fun x155 =>
      (xsca g153 v0 (v4 + (3 : Int32))).bind fun x156 =>
      (xsca g153 v0 (v4 + (4 : Int32))).bind fun x157 =>
      xb2 (xck g153 v2 14 (fM_buy v2 x154 x155 x156 x157 g153)) fun x158 g159 =>
      if x152 = x158 then (
        some (Sum.inl (v0, v1, v2, v3, (v4 + 6), g159)))
      else (
        some (Sum.inr (Sum.inr (((0 : Int32), g159))))))
    else (
    if (x10 &&& (63 : Int32)) = 18 then (
      (xsca g v0 (v4 + (1 : Int32))).bind fun x160 =>
      (xsca g v0 (v4 + (2 : Int32))).bind fun x161 =>
      xb2 (xck g v1 1 (fC_steal v1 x160 x161 g)) fun x162 g163 =>
      (xsca g163 v0 (v4 + (1 : Int32))).bind fun x164 =>
      (xsca g163 v0 (v4 + (2 : Int32))).bind fun x165 =>
      xb2 (xck g163 v2 14 (fM_steal v2 x164 x165 g163)) fun x166 g167 =>
      if x162 = x166 then (
        some (Sum.inl (v0, v1, v2, v3, (v4 + 6), g167)))
      else (
        some (Sum.inr (Sum.inr (((0 : Int32), g167))))))
    else (
    if (x10 &&& (63 : Int32)) = 19 then (
      (xsca g v0 (v4 + (1 : Int32))).bind fun x168 =>
      (xsca g v0 (v4 + (2 : Int32))).bind fun x169 =>
      xb2 (xck g v1 1 (fC_forge v1 x168 x169 g)) fun x170 g171 =>
      (xsca g171 v0 (v4 + (1 : Int32))).bind fun x172 =>
      (xsca g171 v0 (v4 + (2 : Int32))).bind fun x173 =>
      xb2 (xck g171 v2 14 (fM_forge v2 x172 x173 g171)) fun x174 g175 =>
      if x170 = x174 then (
        some (Sum.inl (v0, v1, v2, v3, (v4 + 6), g175)))
      else (
        some (Sum.inr (Sum.inr (((0 : Int32), g175))))))
    else (
    if (x10 &&& (63 : Int32)) = 20 then (
      xb2 (xck g v1 1 (fC_day v1 g)) fun x176 g177 =>
      xb2 (xck g177 v2 14 (fM_day v2 g177)) fun x178 g179 =>
      if x176 = x178 then (
        some (Sum.inl (v0, v1, v2, v3, (v4 + 6), g179)))
      else (
        some (Sum.inr (Sum.inr (((0 : Int32), g179))))))
    else (
    if (x10 &&& (63 : Int32)) = 21 then (
      (xsca g v0 (v4 + (1 : Int32))).bind fun x180 =>
      (xsca g v0 (v4 + (2 : Int32))).bind fun x181 =>
      xb2 (xck g v1 1 (fC_rob v1 x180 x181 g)) fun x182 g183 =>
      (xsca g183 v0 (v4 + (1 : Int32))).bind fun x184 =>
      (xsca g183 v0 (v4 + (2 : Int32))).bind fun x185 =>
      xb2 (xck g183 v2 14 (fM_rob v2 x184 x185 g183)) fun x186 g187 =>
      if x182 = x186 then (
        some (Sum.inl (v0, v1, v2, v3, (v4 + 6), g187)))
      else (
        some (Sum.inr (Sum.inr (((0 : Int32), g187))))))
    else (
    if (x10 &&& (63 : Int32)) = 22 then (
      (xsca g v0 (v4 + (1 : Int32))).bind fun x188 =>
      (xsca g v0 (v4 + (2 : Int32))).bind fun x189 =>
      xb2 (xck g v1 1 (fC_dies v1 x188 x189 g)) fun x190 g191 =>
      (xsca g191 v0 (v4 + (1 : Int32))).bind fun x192 =>
      (xsca g191 v0 (v4 + (2 : Int32))).bind fun x193 =>
      xb2 (xck g191 v2 14 (fM_dies v2 x192 x193 g191)) fun x194 g195 =>
      if x190 = x194 then (
        some (Sum.inl (v0, v1, v2, v3, (v4 + 6), g195)))
      else (
        some (Sum.inr (Sum.inr (((0 : Int32), g195))))))
    else (
    if (x10 &&& (63 : Int32)) = 23 then (
      (xsca g v0 (v4 + (1 : Int32))).bind fun x196 =>
      xb2 (xck g v1 1 (fC_close v1 x196 g)) fun x197 g198 =>
      (xsca g198 v0 (v4 + (1 : Int32))).bind fun x199 =>
      xb2 (xck g198 v2 14 (fM_close v2 x199 g198)) fun x200 g201 =>
      if x197 = x200 then (
        some (Sum.inl (v0, v1, v2, v3, (v4 + 6), g201)))
      else (
        some (Sum.inr (Sum.inr (((0 : Int32), g201))))))
    else (
    if (x10 &&& (63 : Int32)) = 24 then (
      (xck g v1 1 (fC_strokes v1 g)).bind fun x202 =>
      xb2 (xck g v2 14 (fM_strokes v2 g)) fun x203 g204 =>
      if x202 = x203 then (
        some (Sum.inl (v0, v1, v2, v3, (v4 + 6), g204)))
      else (
        some (Sum.inr (Sum.inr (((0 : Int32), g204))))))
    else (
    if (x10 &&& (63 : Int32)) = 25 then (
      (xsca g v0 (v4 + (1 : Int32))).bind fun x205 =>
      (xsca g v0 (v4 + (2 : Int32))).bind fun x206 =>
      xb2 (fLw_stroke v1 x205 x206 v3 g) fun x207 g208 =>
      (xsca g208 v0 (v4 + (1 : Int32))).bind fun x209 =>
      (xsca g208 v0 (v4 + (2 : Int32))).bind fun x210 =>
      xb2 (xck g208 v2 14 (fM_stroke v2 x209 x210 g208)) fun x211 g212 =>
      (xck g212 v2 14 (fM_thrown v2 g212)).bind fun x213 =>
      if x213 = x207 then (
        if x207 = 0 then (
          (xaj g212 v3 (0 : Int32)).bind fun x214 =>
          if (lg_cmp x214 (Int32.toInt64 x211)) = 0 then (
            some (Sum.inl (v0, v1, v2, v3, (v4 + 6), g212)))
          else (
            some (Sum.inr (Sum.inr (((0 : Int32), g212))))))
        else (
          some (Sum.inl (v0, v1, v2, v3, (v4 + 6), g212))))
      else (
        some (Sum.inr (Sum.inr (((0 : Int32), g212))))))
    else (
    if (x10 &&& (63 : Int32)) = 26 then (
      (xsca g v0 (v4 + (1 : Int32))).bind fun x215 =>
      (xck g v1 1 (fC_foreign v1 x215 g)).bind fun x216 =>
      (xsca g v0 (v4 + (1 : Int32))).bind fun x217 =>
      xb2 (xck g v2 14 (fM_foreign v2 x217 g)) fun x218 g219 =>
      if x216 = x218 then (
        some (Sum.inl (v0, v1, v2, v3, (v4 + 6), g219)))
      else (
        some (Sum.inr (Sum.inr (((0 : Int32), g219))))))
    else (
    if (x10 &&& (63 : Int32)) = 27 then (
      (xsca g v0 (v4 + (1 : Int32))).bind fun x220 =>
      (xck g v1 1 (fC_silver v1 x220 g)).bind fun x221 =>
      (xsca g v0 (v4 + (1 : Int32))).bind fun x222 =>
      xb2 (xck g v2 14 (fM_silver v2 x222 g)) fun x223 g224 =>
      if x221 = x223 then (
        some (Sum.inl (v0, v1, v2, v3, (v4 + 6), g224)))
      else (
        some (Sum.inr (Sum.inr (((0 : Int32), g224))))))
    else (
    if (x10 &&& (63 : Int32)) = 28 then (
      (xsca g v0 (v4 + (1 : Int32))).bind fun x225 =>
      (xsca g v0 (v4 + (2 : Int32))).bind fun x226 =>
      (xsca g v0 (v4 + (3 : Int32))).bind fun x227 =>
      xb2 (xck g v1 1 (fC_rows v1 x225 x226 x227 g)) fun x228 g229 =>
      (xsca g229 v0 (v4 + (1 : Int32))).bind fun x230 =>
      (xsca g229 v0 (v4 + (2 : Int32))).bind fun x231 =>
      (xsca g229 v0 (v4 + (3 : Int32))).bind fun x232 =>
      xb2 (xck g229 v2 14 (fM_rows v2 x230 x231 x232 g229)) fun x233 g234 =>
      if x228 = x233 then (
        some (Sum.inl (v0, v1, v2, v3, (v4 + 6), g234)))
      else (
        some (Sum.inr (Sum.inr (((0 : Int32), g234))))))
    else (
    if (x10 &&& (63 : Int32)) = 29 then (
      (xsca g v0 (v4 + (1 : Int32))).bind fun x235 =>
      (xsca g v0 (v4 + (2 : Int32))).bind fun x236 =>
      (xck g v1 1 (fC_could v1 x235 x236 g)).bind fun x237 =>
      (xsca g v0 (v4 + (1 : Int32))).bind fun x238 =>
      (xsca g v0 (v4 + (2 : Int32))).bind fun x239 =>
      xb2 (xck g v2 14 (fM_could v2 x238 x239 g)) fun x240 g241 =>
      if x237 = x240 then (
        some (Sum.inl (v0, v1, v2, v3, (v4 + 6), g241)))
      else (
        some (Sum.inr (Sum.inr (((0 : Int32), g241))))))
    else (
    if (x10 &&& (63 : Int32)) = 30 then (
      (xsca g v0 (v4 + (1 : Int32))).bind fun x242 =>
      (xsca g v0 (v4 + (2 : Int32))).bind fun x243 =>
      xb2 (xck g v1 1 (fC_market v1 x242 x243 g)) fun x244 g245 =>
      (xsca g245 v0 (v4 + (1 : Int32))).bind fun x246 =>
      (xsca g245 v0 (v4 + (2 : Int32))).bind fun x247 =>
      xb2 (xck g245 v2 14 (fM_market v2 x246 x247 g245)) fun x248 g249 =>
      if x244 = x248 then (
        some (Sum.inl (v0, v1, v2, v3, (v4 + 6), g249)))
      else (
        some (Sum.inr (Sum.inr (((0 : Int32), g249))))))
    else (
    if (x10 &&& (63 : Int32)) = 31 then (
      xb2 (xck g v1 1 (fC_undo v1 g)) fun x250 g251 =>
      xb2 (xck g251 v2 14 (fM_undo v2 g251)) fun x252 g253 =>
      if x250 = x252 then (
        some (Sum.inl (v0, v1, v2, v3, (v4 + 6), g253)))
      else (
        some (Sum.inr (Sum.inr (((0 : Int32), g253))))))
    else (
    if (x10 &&& (63 : Int32)) = 32 then (
      xb2 (xck g v1 1 (fC_sentence v1 g)) fun x254 g255 =>
      xb2 (xck g255 v2 14 (fM_sentence v2 g255)) fun x256 g257 =>
      if x254 = x256 then (
        some (Sum.inl (v0, v1, v2, v3, (v4 + 6), g257)))
      else (
        some (Sum.inr (Sum.inr (((0 : Int32), g257))))))
    else (
    if (x10 &&& (63 : Int32)) = 33 then (
      (xsca g v0 (v4 + (1 : Int32))).bind fun x258 =>
      (xck g v1 1 (fC_said v1 x258 g)).bind fun x259 =>
      (xsca g v0 (v4 + (1 : Int32))).bind fun x260 =>
      xb2 (xck g v2 14 (fM_said v2 x260 g)) fun x261 g262 =>
      if x259 = x261 then (
        some (Sum.inl (v0, v1, v2, v3, (v4 + 6), g262)))
      else (
        some (Sum.inr (Sum.inr (((0 : Int32), g262))))))
    else (
    if (x10 &&& (63 : Int32)) = 34 then (
      (xsca g v0 (v4 + (1 : Int32))).bind fun x263 =>
      xb2 (xck g v1 1 (fC_image v1 x263 g)) fun x264 g265 =>
      (xsca g265 v0 (v4 + (1 : Int32))).bind fun x266 =>
      xb2 (xck g265 v2 14 (fM_image v2 x266 g265)) fun x267 g268 =>
      if x264 = x267 then (
        some (Sum.inl (v0, v1, v2, v3, (v4 + 6), g268)))
      else (
        some (Sum.inr (Sum.inr (((0 : Int32), g268))))))
    else (
    if (x10 &&& (63 : Int32)) = 35 then (
      (xsca g v0 (v4 + (1 : Int32))).bind fun x269 =>
      xb2 (xck g v1 1 (fC_restore v1 x269 g)) fun x270 g271 =>
      (xsca g271 v0 (v4 + (1 : Int32))).bind fun x272 =>
      xb2 (xck g271 v2 14 (fM_restore v2 x272 g271)) fun x273 g274 =>
      if x270 = x273 then (
        some (Sum.inl (v0, v1, v2, v3, (v4 + 6), g274)))
      else (
        some (Sum.inr (Sum.inr (((0 : Int32), g274))))))
    else (
    if (x10 &&& (63 : Int32)) = 36 then (
      (xsca g v0 (v4 + (1 : Int32))).bind fun x275 =>
      (xck g v1 1 (fC_count v1 x275 g)).bind fun x276 =>
      (xsca g v0 (v4 + (1 : Int32))).bind fun x277 =>
      xb2 (xck g v2 14 (fM_count v2 x277 g)) fun x278 g279 =>
      if x276 = x278 then (
        some (Sum.inl (v0, v1, v2, v3, (v4 + 6), g279)))
      else (
        some (Sum.inr (Sum.inr (((0 : Int32), g279))))))
    else (
      some (Sum.inl (v0, v1, v2, v3, (v4 + 6), g))))))))))))))))))))))))))))))))))))))))
noncomputable def fL_law_a1590  (g : AH) : Option (Int32 × AH) :=
  some (((1 : Int32), g))
noncomputable def fL_law (v0 : Nat) (h0 : AH) : Option (Int32 × AH) :=
  xb2 (xnew h0 1 29) fun x1 g2 =>
  xb2 (xck g2 x1 1 (fC_init x1 g2)) fun x_ g3 =>
  xb2 (xnew g3 14 47) fun x4 g5 =>
  xb2 (xck g5 x4 14 (fM_init x4 g5)) fun x_ g6 =>
  xb2 (xnewa g6 103 (1 : Int32)) fun x7 g8 =>
  (xloop (fun s9 : (Nat × Nat × Nat × Nat × Int32 × AH) => fL_law_l23 s9.1 s9.2.1 s9.2.2.1 s9.2.2.2.1 s9.2.2.2.2.1 s9.2.2.2.2.2) (v0, x1, x4, x7, (0 : Int32), g8)).bind (Sum.elim (fun r9 : AH => fL_law_a1590 r9) some)
set_option maxHeartbeats 40000000 in
theorem ct_L_law {l : Launch} (hl : l.stackTraces = false) {D : XD} {h0 : AH} {v0 : Nat} {p : Program} {e : Env} {R : Room} {s : State} {m : MethodId} {args : Array Value} {below : List Frame} {meth : Method} {c : Code} {Q : State → Prop} (K : XO p R s m args meth c D 7 h0 cL_law "FaceCoinsLaw" 8192 100000) (hs9 : XScr h0 s) (hb9 : XLawEnd R meth args s h0) : XF p l e R s m args below meth c D 7 h0 Q 0 [(0, xR v0)] [] h0 (fL_law v0 h0) (XEndL below args s Q) := by
  have hL23 : ∀ (C1 : ((Nat × Nat × Nat × Nat × Int32 × AH) ⊕ (AH ⊕ (Int32 × AH))) → Prop) (hj1 : ∀ s9 : (Nat × Nat × Nat × Nat × Int32 × AH), C1 (Sum.inl s9) → XG p l e R s m args below meth c D 7 h0 Q 23 [(0, xR s9.1), (1, xR s9.2.1), (2, xR s9.2.2.1), (3, xR s9.2.2.2.1), (4, xI s9.2.2.2.2.1)] [] s9.2.2.2.2.2) (he1 : ∀ r9 : AH, C1 (Sum.inr (Sum.inl r9)) → XG p l e R s m args below meth c D 7 h0 Q 1590 [] [] r9) (hd1 : ∀ y9 : (Int32 × AH), C1 (Sum.inr (Sum.inr y9)) → (XEndL below args s Q) y9) (v0 : Nat) (v1 : Nat) (v2 : Nat) (v3 : Nat) (v4 : Int32) (g : AH), XF p l e R s m args below meth c D 7 h0 Q 23 [(0, xR v0), (1, xR v1), (2, xR v2), (3, xR v3), (4, xI v4)] [] g (fL_law_l23 v0 v1 v2 v3 v4 g) C1 := by
    intro C1 hj1 he1 hd1
    intro v0 v1 v2 v3 v4 g
    unfold fL_law_l23
    refine x_iload (pc' := 25) K 4 dL_law_23 rfl rfl ?_
    refine x_aload_n (pc' := 26) K 0 dL_law_25 rfl rfl ?_
    refine x_scl (pc' := 27) K hs9 dL_law_26 rfl (fun x9 => ?_)
    refine x_bipush (pc' := 29) (v := 6) K dL_law_27 rfl (by decide) ?_
    refine x_isub (pc' := 30) K dL_law_29 rfl ?_
    refine x_icmp_gt (tgt := 1590) (pc' := 33) K dL_law_30 rfl (by decide) ?_ ?_
    · refine x_sub (lv' := []) [] rfl ?_
      exact x_jump (fun hz => he1 g hz)
    · refine x_aload_n (pc' := 34) K 0 dL_law_33 rfl rfl ?_
      refine x_iload (pc' := 36) K 4 dL_law_34 rfl rfl ?_
      refine x_sca (pc' := 37) K hs9 dL_law_36 rfl (fun x10 => ?_)
      refine x_bipush (pc' := 39) (v := 63) K dL_law_37 rfl (by decide) ?_
      refine x_iand (pc' := 40) K dL_law_39 rfl ?_
      refine x_tsw (tgt := 204) K 0 dL_law_40 (by decide) rfl (by decide) ?_ (fun q0 => ?_)
      · refine x_aload_n (pc' := 205) K 1 dL_law_204 rfl rfl ?_
        refine x_aload_n (pc' := 206) K 0 dL_law_205 rfl rfl ?_
        refine x_iload (pc' := 208) K 4 dL_law_206 rfl rfl ?_
        refine x_iconst (pc' := 209) (v := 1) K dL_law_208 rfl rfl ?_
        refine x_iadd (pc' := 210) K dL_law_209 rfl ?_
        refine x_sca (pc' := 211) K hs9 dL_law_210 rfl (fun x11 => ?_)
        refine x_aload_n (pc' := 212) K 0 dL_law_211 rfl rfl ?_
        refine x_iload (pc' := 214) K 4 dL_law_212 rfl rfl ?_
        refine x_iconst (pc' := 215) (v := 2) K dL_law_214 rfl rfl ?_
        refine x_iadd (pc' := 216) K dL_law_215 rfl ?_
        refine x_sca (pc' := 217) K hs9 dL_law_216 rfl (fun x12 => ?_)
        refine x_aload_n (pc' := 218) K 0 dL_law_217 rfl rfl ?_
        refine x_iload (pc' := 220) K 4 dL_law_218 rfl rfl ?_
        refine x_iconst (pc' := 221) (v := 3) K dL_law_220 rfl rfl ?_
        refine x_iadd (pc' := 222) K dL_law_221 rfl ?_
        refine x_sca (pc' := 223) K hs9 dL_law_222 rfl (fun x13 => ?_)
        refine x_aload_n (pc' := 224) K 0 dL_law_223 rfl rfl ?_
        refine x_iload (pc' := 226) K 4 dL_law_224 rfl rfl ?_
        refine x_iconst (pc' := 227) (v := 4) K dL_law_226 rfl rfl ?_
        refine x_iadd (pc' := 228) K dL_law_227 rfl ?_
        refine x_sca (pc' := 229) K hs9 dL_law_228 rfl (fun x14 => ?_)
        refine x_aload_n (pc' := 230) K 0 dL_law_229 rfl rfl ?_
        refine x_iload (pc' := 232) K 4 dL_law_230 rfl rfl ?_
        refine x_iconst (pc' := 233) (v := 5) K dL_law_232 rfl rfl ?_
        refine x_iadd (pc' := 234) K dL_law_233 rfl ?_
        refine x_sca (pc' := 235) K hs9 dL_law_234 rfl (fun x15 => ?_)
        refine x_cV (pc' := 238) (As := [xI x11, xI x12, xI x13, xI x14, xI x15]) (en := (fun v => some (xI v))) (rest := []) K (fun a h1 hF => ct_X1_feed hF) rfl (by decide) q603 q604 q605 q606 q96 hy_X1_feed (Nat.le_of_ble_eq_true rfl) (Nat.le_of_ble_eq_true rfl) (Nat.le_of_ble_eq_true rfl) dL_law_235 rfl (fun x16 g17 => ?_)
        refine x_aload_n (pc' := 239) K 2 dL_law_238 rfl rfl ?_
        refine x_aload_n (pc' := 240) K 0 dL_law_239 rfl rfl ?_
        refine x_iload (pc' := 242) K 4 dL_law_240 rfl rfl ?_
        refine x_iconst (pc' := 243) (v := 1) K dL_law_242 rfl rfl ?_
        refine x_iadd (pc' := 244) K dL_law_243 rfl ?_
        refine x_sca (pc' := 245) K hs9 dL_law_244 rfl (fun x18 => ?_)
        refine x_aload_n (pc' := 246) K 0 dL_law_245 rfl rfl ?_
        refine x_iload (pc' := 248) K 4 dL_law_246 rfl rfl ?_
        refine x_iconst (pc' := 249) (v := 2) K dL_law_248 rfl rfl ?_
        refine x_iadd (pc' := 250) K dL_law_249 rfl ?_
        refine x_sca (pc' := 251) K hs9 dL_law_250 rfl (fun x19 => ?_)
        refine x_aload_n (pc' := 252) K 0 dL_law_251 rfl rfl ?_
        refine x_iload (pc' := 254) K 4 dL_law_252 rfl rfl ?_
        refine x_iconst (pc' := 255) (v := 3) K dL_law_254 rfl rfl ?_
        refine x_iadd (pc' := 256) K dL_law_255 rfl ?_
        refine x_sca (pc' := 257) K hs9 dL_law_256 rfl (fun x20 => ?_)
        refine x_aload_n (pc' := 258) K 0 dL_law_257 rfl rfl ?_
        refine x_iload (pc' := 260) K 4 dL_law_258 rfl rfl ?_
        refine x_iconst (pc' := 261) (v := 4) K dL_law_260 rfl rfl ?_
        refine x_iadd (pc' := 262) K dL_law_261 rfl ?_
        refine x_sca (pc' := 263) K hs9 dL_law_262 rfl (fun x21 => ?_)
        refine x_aload_n (pc' := 264) K 0 dL_law_263 rfl rfl ?_
        refine x_iload (pc' := 266) K 4 dL_law_264 rfl rfl ?_
        refine x_iconst (pc' := 267) (v := 5) K dL_law_266 rfl rfl ?_
        refine x_iadd (pc' := 268) K dL_law_267 rfl ?_
        refine x_sca (pc' := 269) K hs9 dL_law_268 rfl (fun x22 => ?_)
        refine x_cV (pc' := 272) (As := [xI x18, xI x19, xI x20, xI x21, xI x22]) (en := (fun v => some (xI v))) (rest := [xI x16]) K (fun a h1 hF => ct_X8_feed hF) rfl (by decide) q1459 q1460 q1461 q1462 q105 hy_X8_feed (Nat.le_of_ble_eq_true rfl) (Nat.le_of_ble_eq_true rfl) (Nat.le_of_ble_eq_true rfl) dL_law_269 rfl (fun x23 g24 => ?_)
        refine x_icmp_eq (tgt := 1584) (pc' := 275) K dL_law_272 rfl (by decide) ?_ ?_
        · refine x_iinc (pc' := 1587) (y := 6) (lv' := [(4, xI (v4 + 6)), (0, xR v0), (1, xR v1), (2, xR v2), (3, xR v3)]) K 4 dL_law_1584 rfl rfl (by decide) (by decide) rfl ?_
          refine x_goto (tgt := 23) K dL_law_1587 (by decide) ?_
          refine x_sub (lv' := [(0, xR v0), (1, xR v1), (2, xR v2), (3, xR v3), (4, xI (v4 + 6))]) [1, 2, 3, 4, 0] rfl ?_
          exact x_jump (fun hz => hj1 (v0, v1, v2, v3, (v4 + 6), g24) hz)
        · refine x_iconst (pc' := 276) (v := 0) K dL_law_275 rfl rfl ?_
          refine x_g (fun z => Sum.inr (Sum.inr z)) (x_C (C8 := (XEndL below args s Q)) (fun z hz => hd1 z hz) ?_)
          exact x_lawret K hb9 dL_law_276
      refine x_tsw (tgt := 277) K 1 dL_law_40 (by decide) rfl (by decide) ?_ (fun q1 => ?_)
      · refine x_aload_n (pc' := 278) K 1 dL_law_277 rfl rfl ?_
        refine x_aload_n (pc' := 279) K 0 dL_law_278 rfl rfl ?_
        refine x_iload (pc' := 281) K 4 dL_law_279 rfl rfl ?_
        refine x_iconst (pc' := 282) (v := 1) K dL_law_281 rfl rfl ?_
        refine x_iadd (pc' := 283) K dL_law_282 rfl ?_
        refine x_sca (pc' := 284) K hs9 dL_law_283 rfl (fun x25 => ?_)
        refine x_cV (pc' := 287) (As := [xI x25]) (en := (fun v => some (xI v))) (rest := []) K (fun a h1 hF => ct_X1_end hF) rfl (by decide) q611 q612 q613 q614 q96 hy_X1_end (Nat.le_of_ble_eq_true rfl) (Nat.le_of_ble_eq_true rfl) (Nat.le_of_ble_eq_true rfl) dL_law_284 rfl (fun x26 g27 => ?_)
        refine x_aload_n (pc' := 288) K 2 dL_law_287 rfl rfl ?_
        refine x_aload_n (pc' := 289) K 0 dL_law_288 rfl rfl ?_
        refine x_iload (pc' := 291) K 4 dL_law_289 rfl rfl ?_
        refine x_iconst (pc' := 292) (v := 1) K dL_law_291 rfl rfl ?_
        refine x_iadd (pc' := 293) K dL_law_292 rfl ?_
        refine x_sca (pc' := 294) K hs9 dL_law_293 rfl (fun x28 => ?_)
        refine x_cV (pc' := 297) (As := [xI x28]) (en := (fun v => some (xI v))) (rest := [xI x26]) K (fun a h1 hF => ct_X8_end hF) rfl (by decide) q1467 q1468 q1469 q1470 q105 hy_X8_end (Nat.le_of_ble_eq_true rfl) (Nat.le_of_ble_eq_true rfl) (Nat.le_of_ble_eq_true rfl) dL_law_294 rfl (fun x29 g30 => ?_)
        refine x_icmp_eq (tgt := 1584) (pc' := 300) K dL_law_297 rfl (by decide) ?_ ?_
        · refine x_iinc (pc' := 1587) (y := 6) (lv' := [(4, xI (v4 + 6)), (0, xR v0), (1, xR v1), (2, xR v2), (3, xR v3)]) K 4 dL_law_1584 rfl rfl (by decide) (by decide) rfl ?_
          refine x_goto (tgt := 23) K dL_law_1587 (by decide) ?_
          refine x_sub (lv' := [(0, xR v0), (1, xR v1), (2, xR v2), (3, xR v3), (4, xI (v4 + 6))]) [1, 2, 3, 4, 0] rfl ?_
          exact x_jump (fun hz => hj1 (v0, v1, v2, v3, (v4 + 6), g30) hz)
        · refine x_iconst (pc' := 301) (v := 0) K dL_law_300 rfl rfl ?_
          refine x_g (fun z => Sum.inr (Sum.inr z)) (x_C (C8 := (XEndL below args s Q)) (fun z hz => hd1 z hz) ?_)
          exact x_lawret K hb9 dL_law_301
      refine x_tsw (tgt := 302) K 2 dL_law_40 (by decide) rfl (by decide) ?_ (fun q2 => ?_)
      · refine x_aload_n (pc' := 303) K 1 dL_law_302 rfl rfl ?_
        refine x_cVW (pc' := 306) (As := []) (en := (fun v => some (xI v))) (rest := []) K (fun a h1 hF => ct_X1_law hF) rfl (by decide) q615 q616 q617 q618 q96 hy_X1_law (Nat.le_of_ble_eq_true rfl) (Nat.le_of_ble_eq_true rfl) (Nat.le_of_ble_eq_true rfl) dL_law_303 rfl (fun x31 g32 => ?_)
        refine x_aload_n (pc' := 307) K 2 dL_law_306 rfl rfl ?_
        refine x_cV (pc' := 310) (As := []) (en := (fun v => some (xI v))) (rest := [xI x31]) K (fun a h1 hF => ct_X8_law hF) rfl (by decide) q1471 q1472 q1473 q1474 q105 hy_X8_law (Nat.le_of_ble_eq_true rfl) (Nat.le_of_ble_eq_true rfl) (Nat.le_of_ble_eq_true rfl) dL_law_307 rfl (fun x33 g34 => ?_)
        refine x_icmp_eq (tgt := 1584) (pc' := 313) K dL_law_310 rfl (by decide) ?_ ?_
        · refine x_iinc (pc' := 1587) (y := 6) (lv' := [(4, xI (v4 + 6)), (0, xR v0), (1, xR v1), (2, xR v2), (3, xR v3)]) K 4 dL_law_1584 rfl rfl (by decide) (by decide) rfl ?_
          refine x_goto (tgt := 23) K dL_law_1587 (by decide) ?_
          refine x_sub (lv' := [(0, xR v0), (1, xR v1), (2, xR v2), (3, xR v3), (4, xI (v4 + 6))]) [1, 2, 3, 4, 0] rfl ?_
          exact x_jump (fun hz => hj1 (v0, v1, v2, v3, (v4 + 6), g34) hz)
        · refine x_iconst (pc' := 314) (v := 0) K dL_law_313 rfl rfl ?_
          refine x_g (fun z => Sum.inr (Sum.inr z)) (x_C (C8 := (XEndL below args s Q)) (fun z hz => hd1 z hz) ?_)
          exact x_lawret K hb9 dL_law_314
      refine x_tsw (tgt := 315) K 3 dL_law_40 (by decide) rfl (by decide) ?_ (fun q3 => ?_)
      · refine x_aload_n (pc' := 316) K 1 dL_law_315 rfl rfl ?_
        refine x_cVO (pc' := 319) (As := []) (en := (fun v => some (xI v))) (rest := []) K (fun a hF => ct_X1_fault hF) rfl (by decide) q848 q849 q850 q851 q96 hy_X1_fault (Nat.le_of_ble_eq_true rfl) (Nat.le_of_ble_eq_true rfl) (Nat.le_of_ble_eq_true rfl) dL_law_316 rfl (fun x35 => ?_)
        refine x_aload_n (pc' := 320) K 2 dL_law_319 rfl rfl ?_
        refine x_cV (pc' := 323) (As := []) (en := (fun v => some (xI v))) (rest := [xI x35]) K (fun a h1 hF => ct_X8_fault hF) rfl (by decide) q1578 q1579 q1580 q1581 q105 hy_X8_fault (Nat.le_of_ble_eq_true rfl) (Nat.le_of_ble_eq_true rfl) (Nat.le_of_ble_eq_true rfl) dL_law_320 rfl (fun x36 g37 => ?_)
        refine x_icmp_eq (tgt := 1584) (pc' := 326) K dL_law_323 rfl (by decide) ?_ ?_
        · refine x_iinc (pc' := 1587) (y := 6) (lv' := [(4, xI (v4 + 6)), (0, xR v0), (1, xR v1), (2, xR v2), (3, xR v3)]) K 4 dL_law_1584 rfl rfl (by decide) (by decide) rfl ?_
          refine x_goto (tgt := 23) K dL_law_1587 (by decide) ?_
          refine x_sub (lv' := [(0, xR v0), (1, xR v1), (2, xR v2), (3, xR v3), (4, xI (v4 + 6))]) [1, 2, 3, 4, 0] rfl ?_
          exact x_jump (fun hz => hj1 (v0, v1, v2, v3, (v4 + 6), g37) hz)
        · refine x_iconst (pc' := 327) (v := 0) K dL_law_326 rfl rfl ?_
          refine x_g (fun z => Sum.inr (Sum.inr z)) (x_C (C8 := (XEndL below args s Q)) (fun z hz => hd1 z hz) ?_)
          exact x_lawret K hb9 dL_law_327
      refine x_tsw (tgt := 328) K 4 dL_law_40 (by decide) rfl (by decide) ?_ (fun q4 => ?_)
      · refine x_aload_n (pc' := 329) K 1 dL_law_328 rfl rfl ?_
        refine x_aload_n (pc' := 330) K 0 dL_law_329 rfl rfl ?_
        refine x_iload (pc' := 332) K 4 dL_law_330 rfl rfl ?_
        refine x_iconst (pc' := 333) (v := 1) K dL_law_332 rfl rfl ?_
        refine x_iadd (pc' := 334) K dL_law_333 rfl ?_
        refine x_sca (pc' := 335) K hs9 dL_law_334 rfl (fun x38 => ?_)
        refine x_aload_n (pc' := 336) K 0 dL_law_335 rfl rfl ?_
        refine x_iload (pc' := 338) K 4 dL_law_336 rfl rfl ?_
        refine x_iconst (pc' := 339) (v := 2) K dL_law_338 rfl rfl ?_
        refine x_iadd (pc' := 340) K dL_law_339 rfl ?_
        refine x_sca (pc' := 341) K hs9 dL_law_340 rfl (fun x39 => ?_)
        refine x_aload_n (pc' := 342) K 3 dL_law_341 rfl rfl ?_
        refine x_cSW (pc' := 345) (As := [xR v1, xI x38, xI x39, xR v3]) (en := (fun v => some (xI v))) (rest := []) K (fun a h1 hF => ct_X0_who hl hF) rfl q1238 q1239 q1240 q95 hy_X0_who (Nat.le_of_ble_eq_true rfl) (Nat.le_of_ble_eq_true rfl) (Nat.le_of_ble_eq_true rfl) dL_law_342 rfl (fun x40 g41 => ?_)
        refine x_istore (pc' := 347) (lv' := [(5, xI x40), (0, xR v0), (1, xR v1), (2, xR v2), (3, xR v3), (4, xI v4)]) K dL_law_345 rfl (by decide) rfl ?_
        refine x_aload_n (pc' := 348) K 3 dL_law_347 rfl rfl ?_
        refine x_aload_n (pc' := 349) K 1 dL_law_348 rfl rfl ?_
        refine x_iload (pc' := 351) K 5 dL_law_349 rfl rfl ?_
        refine x_iconst (pc' := 352) (v := 1) K dL_law_351 rfl rfl ?_
        refine x_iadd (pc' := 353) K dL_law_352 rfl ?_
        refine x_sca (pc' := 354) K hs9 dL_law_353 rfl (fun x42 => ?_)
        refine x_aload_n (pc' := 355) K 1 dL_law_354 rfl rfl ?_
        refine x_iload (pc' := 357) K 5 dL_law_355 rfl rfl ?_
        refine x_iconst (pc' := 358) (v := 2) K dL_law_357 rfl rfl ?_
        refine x_iadd (pc' := 359) K dL_law_358 rfl ?_
        refine x_sca (pc' := 360) K hs9 dL_law_359 rfl (fun x43 => ?_)
        refine x_cV (pc' := 363) (As := [xI x42, xI x43]) (en := (fun v => some (xI v))) (rest := []) K (fun a h1 hF => ct_X8_who hF) rfl (by decide) q1582 q1583 q1584 q1585 q105 hy_X8_who (Nat.le_of_ble_eq_true rfl) (Nat.le_of_ble_eq_true rfl) (Nat.le_of_ble_eq_true rfl) dL_law_360 rfl (fun x44 g45 => ?_)
        refine x_istore (pc' := 365) (lv' := [(6, xI x44), (5, xI x40), (0, xR v0), (1, xR v1), (2, xR v2), (3, xR v3), (4, xI v4)]) K dL_law_363 rfl (by decide) rfl ?_
        refine x_aload_n (pc' := 366) K 4 dL_law_365 rfl rfl ?_
        refine x_cVO (pc' := 369) (As := []) (en := (fun v => some (xI v))) (rest := []) K (fun a hF => ct_X8_thrown hF) rfl (by decide) q1455 q1456 q1457 q1458 q105 hy_X8_thrown (Nat.le_of_ble_eq_true rfl) (Nat.le_of_ble_eq_true rfl) (Nat.le_of_ble_eq_true rfl) dL_law_366 rfl (fun x46 => ?_)
        refine x_iload (pc' := 371) K 1 dL_law_369 rfl rfl ?_
        refine x_icmp_eq (tgt := 376) (pc' := 374) K dL_law_371 rfl (by decide) ?_ ?_
        · refine x_iload (pc' := 378) K 1 dL_law_376 rfl rfl ?_
          refine x_if_ne (tgt := 393) (pc' := 381) K dL_law_378 rfl (by decide) ?_ ?_
          · refine x_goto (tgt := 1584) K dL_law_393 (by decide) ?_
            refine x_iinc (pc' := 1587) (y := 6) (lv' := [(4, xI (v4 + 6)), (6, xI x44), (5, xI x40), (0, xR v0), (1, xR v1), (2, xR v2), (3, xR v3)]) K 6 dL_law_1584 rfl rfl (by decide) (by decide) rfl ?_
            refine x_goto (tgt := 23) K dL_law_1587 (by decide) ?_
            refine x_sub (lv' := [(0, xR v0), (1, xR v1), (2, xR v2), (3, xR v3), (4, xI (v4 + 6))]) [3, 4, 5, 6, 0] rfl ?_
            exact x_jump (fun hz => hj1 (v0, v1, v2, v3, (v4 + 6), g45) hz)
          · refine x_aload_n (pc' := 382) K 5 dL_law_381 rfl rfl ?_
            refine x_iconst (pc' := 383) (v := 0) K dL_law_382 rfl rfl ?_
            refine x_lald (pc' := 384) K dL_law_383 rfl (fun x47 => ?_)
            refine x_iload (pc' := 386) K 0 dL_law_384 rfl rfl ?_
            refine x_i2l (pc' := 387) K dL_law_386 rfl ?_
            refine x_lcmp (pc' := 388) K dL_law_387 rfl ?_
            refine x_if_eq (tgt := 393) (pc' := 391) K dL_law_388 rfl (by decide) ?_ ?_
            · refine x_goto (tgt := 1584) K dL_law_393 (by decide) ?_
              refine x_iinc (pc' := 1587) (y := 6) (lv' := [(4, xI (v4 + 6)), (6, xI x44), (5, xI x40), (0, xR v0), (1, xR v1), (2, xR v2), (3, xR v3)]) K 6 dL_law_1584 rfl rfl (by decide) (by decide) rfl ?_
              refine x_goto (tgt := 23) K dL_law_1587 (by decide) ?_
              refine x_sub (lv' := [(0, xR v0), (1, xR v1), (2, xR v2), (3, xR v3), (4, xI (v4 + 6))]) [3, 4, 5, 6, 0] rfl ?_
              exact x_jump (fun hz => hj1 (v0, v1, v2, v3, (v4 + 6), g45) hz)
            · refine x_iconst (pc' := 392) (v := 0) K dL_law_391 rfl rfl ?_
              refine x_g (fun z => Sum.inr (Sum.inr z)) (x_C (C8 := (XEndL below args s Q)) (fun z hz => hd1 z hz) ?_)
              exact x_lawret K hb9 dL_law_392
        · refine x_iconst (pc' := 375) (v := 0) K dL_law_374 rfl rfl ?_
          refine x_g (fun z => Sum.inr (Sum.inr z)) (x_C (C8 := (XEndL below args s Q)) (fun z hz => hd1 z hz) ?_)
          exact x_lawret K hb9 dL_law_375
      refine x_tsw (tgt := 396) K 5 dL_law_40 (by decide) rfl (by decide) ?_ (fun q5 => ?_)
      · refine x_aload_n (pc' := 397) K 1 dL_law_396 rfl rfl ?_
        refine x_aload_n (pc' := 398) K 0 dL_law_397 rfl rfl ?_
        refine x_iload (pc' := 400) K 4 dL_law_398 rfl rfl ?_
        refine x_iconst (pc' := 401) (v := 1) K dL_law_400 rfl rfl ?_
        refine x_iadd (pc' := 402) K dL_law_401 rfl ?_
        refine x_sca (pc' := 403) K hs9 dL_law_402 rfl (fun x48 => ?_)
        refine x_aload_n (pc' := 404) K 0 dL_law_403 rfl rfl ?_
        refine x_iload (pc' := 406) K 4 dL_law_404 rfl rfl ?_
        refine x_iconst (pc' := 407) (v := 2) K dL_law_406 rfl rfl ?_
        refine x_iadd (pc' := 408) K dL_law_407 rfl ?_
        refine x_sca (pc' := 409) K hs9 dL_law_408 rfl (fun x49 => ?_)
        refine x_aload_n (pc' := 410) K 3 dL_law_409 rfl rfl ?_
        refine x_cSW (pc' := 413) (As := [xR v1, xI x48, xI x49, xR v3]) (en := (fun v => some (xI v))) (rest := []) K (fun a h1 hF => ct_X0_mint hl hF) rfl q1272 q1273 q1274 q95 hy_X0_mint (Nat.le_of_ble_eq_true rfl) (Nat.le_of_ble_eq_true rfl) (Nat.le_of_ble_eq_true rfl) dL_law_410 rfl (fun x50 g51 => ?_)
        refine x_istore (pc' := 415) (lv' := [(5, xI x50), (0, xR v0), (1, xR v1), (2, xR v2), (3, xR v3), (4, xI v4)]) K dL_law_413 rfl (by decide) rfl ?_
        refine x_aload_n (pc' := 416) K 3 dL_law_415 rfl rfl ?_
        refine x_aload_n (pc' := 417) K 1 dL_law_416 rfl rfl ?_
        refine x_iload (pc' := 419) K 5 dL_law_417 rfl rfl ?_
        refine x_iconst (pc' := 420) (v := 1) K dL_law_419 rfl rfl ?_
        refine x_iadd (pc' := 421) K dL_law_420 rfl ?_
        refine x_sca (pc' := 422) K hs9 dL_law_421 rfl (fun x52 => ?_)
        refine x_aload_n (pc' := 423) K 1 dL_law_422 rfl rfl ?_
        refine x_iload (pc' := 425) K 5 dL_law_423 rfl rfl ?_
        refine x_iconst (pc' := 426) (v := 2) K dL_law_425 rfl rfl ?_
        refine x_iadd (pc' := 427) K dL_law_426 rfl ?_
        refine x_sca (pc' := 428) K hs9 dL_law_427 rfl (fun x53 => ?_)
        refine x_cV (pc' := 431) (As := [xI x52, xI x53]) (en := (fun v => some (xI v))) (rest := []) K (fun a h1 hF => ct_X8_mint hF) rfl (by decide) q1614 q1615 q1616 q1617 q105 hy_X8_mint (Nat.le_of_ble_eq_true rfl) (Nat.le_of_ble_eq_true rfl) (Nat.le_of_ble_eq_true rfl) dL_law_428 rfl (fun x54 g55 => ?_)
        refine x_istore (pc' := 433) (lv' := [(6, xI x54), (5, xI x50), (0, xR v0), (1, xR v1), (2, xR v2), (3, xR v3), (4, xI v4)]) K dL_law_431 rfl (by decide) rfl ?_
        refine x_aload_n (pc' := 434) K 4 dL_law_433 rfl rfl ?_
        refine x_cVO (pc' := 437) (As := []) (en := (fun v => some (xI v))) (rest := []) K (fun a hF => ct_X8_thrown hF) rfl (by decide) q1455 q1456 q1457 q1458 q105 hy_X8_thrown (Nat.le_of_ble_eq_true rfl) (Nat.le_of_ble_eq_true rfl) (Nat.le_of_ble_eq_true rfl) dL_law_434 rfl (fun x56 => ?_)
        refine x_iload (pc' := 439) K 1 dL_law_437 rfl rfl ?_
        refine x_icmp_eq (tgt := 444) (pc' := 442) K dL_law_439 rfl (by decide) ?_ ?_
        · refine x_iload (pc' := 446) K 1 dL_law_444 rfl rfl ?_
          refine x_if_ne (tgt := 461) (pc' := 449) K dL_law_446 rfl (by decide) ?_ ?_
          · refine x_goto (tgt := 1584) K dL_law_461 (by decide) ?_
            refine x_iinc (pc' := 1587) (y := 6) (lv' := [(4, xI (v4 + 6)), (6, xI x54), (5, xI x50), (0, xR v0), (1, xR v1), (2, xR v2), (3, xR v3)]) K 6 dL_law_1584 rfl rfl (by decide) (by decide) rfl ?_
            refine x_goto (tgt := 23) K dL_law_1587 (by decide) ?_
            refine x_sub (lv' := [(0, xR v0), (1, xR v1), (2, xR v2), (3, xR v3), (4, xI (v4 + 6))]) [3, 4, 5, 6, 0] rfl ?_
            exact x_jump (fun hz => hj1 (v0, v1, v2, v3, (v4 + 6), g55) hz)
          · refine x_aload_n (pc' := 450) K 5 dL_law_449 rfl rfl ?_
            refine x_iconst (pc' := 451) (v := 0) K dL_law_450 rfl rfl ?_
            refine x_lald (pc' := 452) K dL_law_451 rfl (fun x57 => ?_)
            refine x_iload (pc' := 454) K 0 dL_law_452 rfl rfl ?_
            refine x_i2l (pc' := 455) K dL_law_454 rfl ?_
            refine x_lcmp (pc' := 456) K dL_law_455 rfl ?_
            refine x_if_eq (tgt := 461) (pc' := 459) K dL_law_456 rfl (by decide) ?_ ?_
            · refine x_goto (tgt := 1584) K dL_law_461 (by decide) ?_
              refine x_iinc (pc' := 1587) (y := 6) (lv' := [(4, xI (v4 + 6)), (6, xI x54), (5, xI x50), (0, xR v0), (1, xR v1), (2, xR v2), (3, xR v3)]) K 6 dL_law_1584 rfl rfl (by decide) (by decide) rfl ?_
              refine x_goto (tgt := 23) K dL_law_1587 (by decide) ?_
              refine x_sub (lv' := [(0, xR v0), (1, xR v1), (2, xR v2), (3, xR v3), (4, xI (v4 + 6))]) [3, 4, 5, 6, 0] rfl ?_
              exact x_jump (fun hz => hj1 (v0, v1, v2, v3, (v4 + 6), g55) hz)
            · refine x_iconst (pc' := 460) (v := 0) K dL_law_459 rfl rfl ?_
              refine x_g (fun z => Sum.inr (Sum.inr z)) (x_C (C8 := (XEndL below args s Q)) (fun z hz => hd1 z hz) ?_)
              exact x_lawret K hb9 dL_law_460
        · refine x_iconst (pc' := 443) (v := 0) K dL_law_442 rfl rfl ?_
          refine x_g (fun z => Sum.inr (Sum.inr z)) (x_C (C8 := (XEndL below args s Q)) (fun z hz => hd1 z hz) ?_)
          exact x_lawret K hb9 dL_law_443
      refine x_tsw (tgt := 464) K 6 dL_law_40 (by decide) rfl (by decide) ?_ (fun q6 => ?_)
      · refine x_aload_n (pc' := 465) K 1 dL_law_464 rfl rfl ?_
        refine x_aload_n (pc' := 466) K 0 dL_law_465 rfl rfl ?_
        refine x_iload (pc' := 468) K 4 dL_law_466 rfl rfl ?_
        refine x_iconst (pc' := 469) (v := 1) K dL_law_468 rfl rfl ?_
        refine x_iadd (pc' := 470) K dL_law_469 rfl ?_
        refine x_sca (pc' := 471) K hs9 dL_law_470 rfl (fun x58 => ?_)
        refine x_aload_n (pc' := 472) K 0 dL_law_471 rfl rfl ?_
        refine x_iload (pc' := 474) K 4 dL_law_472 rfl rfl ?_
        refine x_iconst (pc' := 475) (v := 2) K dL_law_474 rfl rfl ?_
        refine x_iadd (pc' := 476) K dL_law_475 rfl ?_
        refine x_sca (pc' := 477) K hs9 dL_law_476 rfl (fun x59 => ?_)
        refine x_aload_n (pc' := 478) K 0 dL_law_477 rfl rfl ?_
        refine x_iload (pc' := 480) K 4 dL_law_478 rfl rfl ?_
        refine x_iconst (pc' := 481) (v := 3) K dL_law_480 rfl rfl ?_
        refine x_iadd (pc' := 482) K dL_law_481 rfl ?_
        refine x_sca (pc' := 483) K hs9 dL_law_482 rfl (fun x60 => ?_)
        refine x_cV (pc' := 486) (As := [xI x58, xI x59, xI x60]) (en := (fun v => some (xI v))) (rest := []) K (fun a h1 hF => ct_X1_coin hF) rfl (by decide) q863 q864 q865 q866 q96 hy_X1_coin (Nat.le_of_ble_eq_true rfl) (Nat.le_of_ble_eq_true rfl) (Nat.le_of_ble_eq_true rfl) dL_law_483 rfl (fun x61 g62 => ?_)
        refine x_aload_n (pc' := 487) K 2 dL_law_486 rfl rfl ?_
        refine x_aload_n (pc' := 488) K 0 dL_law_487 rfl rfl ?_
        refine x_iload (pc' := 490) K 4 dL_law_488 rfl rfl ?_
        refine x_iconst (pc' := 491) (v := 1) K dL_law_490 rfl rfl ?_
        refine x_iadd (pc' := 492) K dL_law_491 rfl ?_
        refine x_sca (pc' := 493) K hs9 dL_law_492 rfl (fun x63 => ?_)
        refine x_aload_n (pc' := 494) K 0 dL_law_493 rfl rfl ?_
        refine x_iload (pc' := 496) K 4 dL_law_494 rfl rfl ?_
        refine x_iconst (pc' := 497) (v := 2) K dL_law_496 rfl rfl ?_
        refine x_iadd (pc' := 498) K dL_law_497 rfl ?_
        refine x_sca (pc' := 499) K hs9 dL_law_498 rfl (fun x64 => ?_)
        refine x_aload_n (pc' := 500) K 0 dL_law_499 rfl rfl ?_
        refine x_iload (pc' := 502) K 4 dL_law_500 rfl rfl ?_
        refine x_iconst (pc' := 503) (v := 3) K dL_law_502 rfl rfl ?_
        refine x_iadd (pc' := 504) K dL_law_503 rfl ?_
        refine x_sca (pc' := 505) K hs9 dL_law_504 rfl (fun x65 => ?_)
        refine x_cV (pc' := 508) (As := [xI x63, xI x64, xI x65]) (en := (fun v => some (xI v))) (rest := [xI x61]) K (fun a h1 hF => ct_X8_coin hF) rfl (by decide) q1630 q1631 q1632 q1633 q105 hy_X8_coin (Nat.le_of_ble_eq_true rfl) (Nat.le_of_ble_eq_true rfl) (Nat.le_of_ble_eq_true rfl) dL_law_505 rfl (fun x66 g67 => ?_)
        refine x_icmp_eq (tgt := 1584) (pc' := 511) K dL_law_508 rfl (by decide) ?_ ?_
        · refine x_iinc (pc' := 1587) (y := 6) (lv' := [(4, xI (v4 + 6)), (0, xR v0), (1, xR v1), (2, xR v2), (3, xR v3)]) K 4 dL_law_1584 rfl rfl (by decide) (by decide) rfl ?_
          refine x_goto (tgt := 23) K dL_law_1587 (by decide) ?_
          refine x_sub (lv' := [(0, xR v0), (1, xR v1), (2, xR v2), (3, xR v3), (4, xI (v4 + 6))]) [1, 2, 3, 4, 0] rfl ?_
          exact x_jump (fun hz => hj1 (v0, v1, v2, v3, (v4 + 6), g67) hz)
        · refine x_iconst (pc' := 512) (v := 0) K dL_law_511 rfl rfl ?_
          refine x_g (fun z => Sum.inr (Sum.inr z)) (x_C (C8 := (XEndL below args s Q)) (fun z hz => hd1 z hz) ?_)
          exact x_lawret K hb9 dL_law_512
      refine x_tsw (tgt := 513) K 7 dL_law_40 (by decide) rfl (by decide) ?_ (fun q7 => ?_)
      · refine x_aload_n (pc' := 514) K 1 dL_law_513 rfl rfl ?_
        refine x_aload_n (pc' := 515) K 0 dL_law_514 rfl rfl ?_
        refine x_iload (pc' := 517) K 4 dL_law_515 rfl rfl ?_
        refine x_iconst (pc' := 518) (v := 1) K dL_law_517 rfl rfl ?_
        refine x_iadd (pc' := 519) K dL_law_518 rfl ?_
        refine x_sca (pc' := 520) K hs9 dL_law_519 rfl (fun x68 => ?_)
        refine x_aload_n (pc' := 521) K 0 dL_law_520 rfl rfl ?_
        refine x_iload (pc' := 523) K 4 dL_law_521 rfl rfl ?_
        refine x_iconst (pc' := 524) (v := 2) K dL_law_523 rfl rfl ?_
        refine x_iadd (pc' := 525) K dL_law_524 rfl ?_
        refine x_sca (pc' := 526) K hs9 dL_law_525 rfl (fun x69 => ?_)
        refine x_aload_n (pc' := 527) K 3 dL_law_526 rfl rfl ?_
        refine x_cSW (pc' := 530) (As := [xR v1, xI x68, xI x69, xR v3]) (en := (fun v => some (xI v))) (rest := []) K (fun a h1 hF => ct_X0_of hl hF) rfl q1279 q1280 q1281 q95 hy_X0_of (Nat.le_of_ble_eq_true rfl) (Nat.le_of_ble_eq_true rfl) (Nat.le_of_ble_eq_true rfl) dL_law_527 rfl (fun x70 g71 => ?_)
        refine x_istore (pc' := 532) (lv' := [(5, xI x70), (0, xR v0), (1, xR v1), (2, xR v2), (3, xR v3), (4, xI v4)]) K dL_law_530 rfl (by decide) rfl ?_
        refine x_aload_n (pc' := 533) K 3 dL_law_532 rfl rfl ?_
        refine x_aload_n (pc' := 534) K 1 dL_law_533 rfl rfl ?_
        refine x_iload (pc' := 536) K 5 dL_law_534 rfl rfl ?_
        refine x_iconst (pc' := 537) (v := 1) K dL_law_536 rfl rfl ?_
        refine x_iadd (pc' := 538) K dL_law_537 rfl ?_
        refine x_sca (pc' := 539) K hs9 dL_law_538 rfl (fun x72 => ?_)
        refine x_aload_n (pc' := 540) K 1 dL_law_539 rfl rfl ?_
        refine x_iload (pc' := 542) K 5 dL_law_540 rfl rfl ?_
        refine x_iconst (pc' := 543) (v := 2) K dL_law_542 rfl rfl ?_
        refine x_iadd (pc' := 544) K dL_law_543 rfl ?_
        refine x_sca (pc' := 545) K hs9 dL_law_544 rfl (fun x73 => ?_)
        refine x_cV (pc' := 548) (As := [xI x72, xI x73]) (en := (fun v => some (xI v))) (rest := []) K (fun a h1 hF => ct_X8_of hF) rfl (by decide) q1650 q1651 q1652 q1653 q105 hy_X8_of (Nat.le_of_ble_eq_true rfl) (Nat.le_of_ble_eq_true rfl) (Nat.le_of_ble_eq_true rfl) dL_law_545 rfl (fun x74 g75 => ?_)
        refine x_istore (pc' := 550) (lv' := [(6, xI x74), (5, xI x70), (0, xR v0), (1, xR v1), (2, xR v2), (3, xR v3), (4, xI v4)]) K dL_law_548 rfl (by decide) rfl ?_
        refine x_aload_n (pc' := 551) K 4 dL_law_550 rfl rfl ?_
        refine x_cVO (pc' := 554) (As := []) (en := (fun v => some (xI v))) (rest := []) K (fun a hF => ct_X8_thrown hF) rfl (by decide) q1455 q1456 q1457 q1458 q105 hy_X8_thrown (Nat.le_of_ble_eq_true rfl) (Nat.le_of_ble_eq_true rfl) (Nat.le_of_ble_eq_true rfl) dL_law_551 rfl (fun x76 => ?_)
        refine x_iload (pc' := 556) K 1 dL_law_554 rfl rfl ?_
        refine x_icmp_eq (tgt := 561) (pc' := 559) K dL_law_556 rfl (by decide) ?_ ?_
        · refine x_iload (pc' := 563) K 1 dL_law_561 rfl rfl ?_
          refine x_if_ne (tgt := 578) (pc' := 566) K dL_law_563 rfl (by decide) ?_ ?_
          · refine x_goto (tgt := 1584) K dL_law_578 (by decide) ?_
            refine x_iinc (pc' := 1587) (y := 6) (lv' := [(4, xI (v4 + 6)), (6, xI x74), (5, xI x70), (0, xR v0), (1, xR v1), (2, xR v2), (3, xR v3)]) K 6 dL_law_1584 rfl rfl (by decide) (by decide) rfl ?_
            refine x_goto (tgt := 23) K dL_law_1587 (by decide) ?_
            refine x_sub (lv' := [(0, xR v0), (1, xR v1), (2, xR v2), (3, xR v3), (4, xI (v4 + 6))]) [3, 4, 5, 6, 0] rfl ?_
            exact x_jump (fun hz => hj1 (v0, v1, v2, v3, (v4 + 6), g75) hz)
          · refine x_aload_n (pc' := 567) K 5 dL_law_566 rfl rfl ?_
            refine x_iconst (pc' := 568) (v := 0) K dL_law_567 rfl rfl ?_
            refine x_lald (pc' := 569) K dL_law_568 rfl (fun x77 => ?_)
            refine x_iload (pc' := 571) K 0 dL_law_569 rfl rfl ?_
            refine x_i2l (pc' := 572) K dL_law_571 rfl ?_
            refine x_lcmp (pc' := 573) K dL_law_572 rfl ?_
            refine x_if_eq (tgt := 578) (pc' := 576) K dL_law_573 rfl (by decide) ?_ ?_
            · refine x_goto (tgt := 1584) K dL_law_578 (by decide) ?_
              refine x_iinc (pc' := 1587) (y := 6) (lv' := [(4, xI (v4 + 6)), (6, xI x74), (5, xI x70), (0, xR v0), (1, xR v1), (2, xR v2), (3, xR v3)]) K 6 dL_law_1584 rfl rfl (by decide) (by decide) rfl ?_
              refine x_goto (tgt := 23) K dL_law_1587 (by decide) ?_
              refine x_sub (lv' := [(0, xR v0), (1, xR v1), (2, xR v2), (3, xR v3), (4, xI (v4 + 6))]) [3, 4, 5, 6, 0] rfl ?_
              exact x_jump (fun hz => hj1 (v0, v1, v2, v3, (v4 + 6), g75) hz)
            · refine x_iconst (pc' := 577) (v := 0) K dL_law_576 rfl rfl ?_
              refine x_g (fun z => Sum.inr (Sum.inr z)) (x_C (C8 := (XEndL below args s Q)) (fun z hz => hd1 z hz) ?_)
              exact x_lawret K hb9 dL_law_577
        · refine x_iconst (pc' := 560) (v := 0) K dL_law_559 rfl rfl ?_
          refine x_g (fun z => Sum.inr (Sum.inr z)) (x_C (C8 := (XEndL below args s Q)) (fun z hz => hd1 z hz) ?_)
          exact x_lawret K hb9 dL_law_560
      refine x_tsw (tgt := 581) K 8 dL_law_40 (by decide) rfl (by decide) ?_ (fun q8 => ?_)
      · refine x_aload_n (pc' := 582) K 1 dL_law_581 rfl rfl ?_
        refine x_aload_n (pc' := 583) K 0 dL_law_582 rfl rfl ?_
        refine x_iload (pc' := 585) K 4 dL_law_583 rfl rfl ?_
        refine x_iconst (pc' := 586) (v := 1) K dL_law_585 rfl rfl ?_
        refine x_iadd (pc' := 587) K dL_law_586 rfl ?_
        refine x_sca (pc' := 588) K hs9 dL_law_587 rfl (fun x78 => ?_)
        refine x_aload_n (pc' := 589) K 0 dL_law_588 rfl rfl ?_
        refine x_iload (pc' := 591) K 4 dL_law_589 rfl rfl ?_
        refine x_iconst (pc' := 592) (v := 2) K dL_law_591 rfl rfl ?_
        refine x_iadd (pc' := 593) K dL_law_592 rfl ?_
        refine x_sca (pc' := 594) K hs9 dL_law_593 rfl (fun x79 => ?_)
        refine x_aload_n (pc' := 595) K 0 dL_law_594 rfl rfl ?_
        refine x_iload (pc' := 597) K 4 dL_law_595 rfl rfl ?_
        refine x_iconst (pc' := 598) (v := 3) K dL_law_597 rfl rfl ?_
        refine x_iadd (pc' := 599) K dL_law_598 rfl ?_
        refine x_sca (pc' := 600) K hs9 dL_law_599 rfl (fun x80 => ?_)
        refine x_cVO (pc' := 603) (As := [xI x78, xI x79, xI x80]) (en := (fun v => some (xI v))) (rest := []) K (fun a hF => ct_X1_face hF) rfl (by decide) q894 q895 q896 q897 q96 hy_X1_face (Nat.le_of_ble_eq_true rfl) (Nat.le_of_ble_eq_true rfl) (Nat.le_of_ble_eq_true rfl) dL_law_600 rfl (fun x81 => ?_)
        refine x_aload_n (pc' := 604) K 2 dL_law_603 rfl rfl ?_
        refine x_aload_n (pc' := 605) K 0 dL_law_604 rfl rfl ?_
        refine x_iload (pc' := 607) K 4 dL_law_605 rfl rfl ?_
        refine x_iconst (pc' := 608) (v := 1) K dL_law_607 rfl rfl ?_
        refine x_iadd (pc' := 609) K dL_law_608 rfl ?_
        refine x_sca (pc' := 610) K hs9 dL_law_609 rfl (fun x82 => ?_)
        refine x_aload_n (pc' := 611) K 0 dL_law_610 rfl rfl ?_
        refine x_iload (pc' := 613) K 4 dL_law_611 rfl rfl ?_
        refine x_iconst (pc' := 614) (v := 2) K dL_law_613 rfl rfl ?_
        refine x_iadd (pc' := 615) K dL_law_614 rfl ?_
        refine x_sca (pc' := 616) K hs9 dL_law_615 rfl (fun x83 => ?_)
        refine x_aload_n (pc' := 617) K 0 dL_law_616 rfl rfl ?_
        refine x_iload (pc' := 619) K 4 dL_law_617 rfl rfl ?_
        refine x_iconst (pc' := 620) (v := 3) K dL_law_619 rfl rfl ?_
        refine x_iadd (pc' := 621) K dL_law_620 rfl ?_
        refine x_sca (pc' := 622) K hs9 dL_law_621 rfl (fun x84 => ?_)
        refine x_cV (pc' := 625) (As := [xI x82, xI x83, xI x84]) (en := (fun v => some (xI v))) (rest := [xI x81]) K (fun a h1 hF => ct_X8_face hF) rfl (by decide) q1666 q1667 q1668 q1669 q105 hy_X8_face (Nat.le_of_ble_eq_true rfl) (Nat.le_of_ble_eq_true rfl) (Nat.le_of_ble_eq_true rfl) dL_law_622 rfl (fun x85 g86 => ?_)
        refine x_icmp_eq (tgt := 1584) (pc' := 628) K dL_law_625 rfl (by decide) ?_ ?_
        · refine x_iinc (pc' := 1587) (y := 6) (lv' := [(4, xI (v4 + 6)), (0, xR v0), (1, xR v1), (2, xR v2), (3, xR v3)]) K 4 dL_law_1584 rfl rfl (by decide) (by decide) rfl ?_
          refine x_goto (tgt := 23) K dL_law_1587 (by decide) ?_
          refine x_sub (lv' := [(0, xR v0), (1, xR v1), (2, xR v2), (3, xR v3), (4, xI (v4 + 6))]) [1, 2, 3, 4, 0] rfl ?_
          exact x_jump (fun hz => hj1 (v0, v1, v2, v3, (v4 + 6), g86) hz)
        · refine x_iconst (pc' := 629) (v := 0) K dL_law_628 rfl rfl ?_
          refine x_g (fun z => Sum.inr (Sum.inr z)) (x_C (C8 := (XEndL below args s Q)) (fun z hz => hd1 z hz) ?_)
          exact x_lawret K hb9 dL_law_629
      refine x_tsw (tgt := 630) K 9 dL_law_40 (by decide) rfl (by decide) ?_ (fun q9 => ?_)
      · refine x_aload_n (pc' := 631) K 1 dL_law_630 rfl rfl ?_
        refine x_aload_n (pc' := 632) K 0 dL_law_631 rfl rfl ?_
        refine x_iload (pc' := 634) K 4 dL_law_632 rfl rfl ?_
        refine x_iconst (pc' := 635) (v := 1) K dL_law_634 rfl rfl ?_
        refine x_iadd (pc' := 636) K dL_law_635 rfl ?_
        refine x_sca (pc' := 637) K hs9 dL_law_636 rfl (fun x87 => ?_)
        refine x_aload_n (pc' := 638) K 0 dL_law_637 rfl rfl ?_
        refine x_iload (pc' := 640) K 4 dL_law_638 rfl rfl ?_
        refine x_iconst (pc' := 641) (v := 2) K dL_law_640 rfl rfl ?_
        refine x_iadd (pc' := 642) K dL_law_641 rfl ?_
        refine x_sca (pc' := 643) K hs9 dL_law_642 rfl (fun x88 => ?_)
        refine x_aload_n (pc' := 644) K 0 dL_law_643 rfl rfl ?_
        refine x_iload (pc' := 646) K 4 dL_law_644 rfl rfl ?_
        refine x_iconst (pc' := 647) (v := 3) K dL_law_646 rfl rfl ?_
        refine x_iadd (pc' := 648) K dL_law_647 rfl ?_
        refine x_sca (pc' := 649) K hs9 dL_law_648 rfl (fun x89 => ?_)
        refine x_cVO (pc' := 652) (As := [xI x87, xI x88, xI x89]) (en := (fun v => some (xI v))) (rest := []) K (fun a hF => ct_X1_value hF) rfl (by decide) q902 q903 q904 q905 q96 hy_X1_value (Nat.le_of_ble_eq_true rfl) (Nat.le_of_ble_eq_true rfl) (Nat.le_of_ble_eq_true rfl) dL_law_649 rfl (fun x90 => ?_)
        refine x_aload_n (pc' := 653) K 2 dL_law_652 rfl rfl ?_
        refine x_aload_n (pc' := 654) K 0 dL_law_653 rfl rfl ?_
        refine x_iload (pc' := 656) K 4 dL_law_654 rfl rfl ?_
        refine x_iconst (pc' := 657) (v := 1) K dL_law_656 rfl rfl ?_
        refine x_iadd (pc' := 658) K dL_law_657 rfl ?_
        refine x_sca (pc' := 659) K hs9 dL_law_658 rfl (fun x91 => ?_)
        refine x_aload_n (pc' := 660) K 0 dL_law_659 rfl rfl ?_
        refine x_iload (pc' := 662) K 4 dL_law_660 rfl rfl ?_
        refine x_iconst (pc' := 663) (v := 2) K dL_law_662 rfl rfl ?_
        refine x_iadd (pc' := 664) K dL_law_663 rfl ?_
        refine x_sca (pc' := 665) K hs9 dL_law_664 rfl (fun x92 => ?_)
        refine x_aload_n (pc' := 666) K 0 dL_law_665 rfl rfl ?_
        refine x_iload (pc' := 668) K 4 dL_law_666 rfl rfl ?_
        refine x_iconst (pc' := 669) (v := 3) K dL_law_668 rfl rfl ?_
        refine x_iadd (pc' := 670) K dL_law_669 rfl ?_
        refine x_sca (pc' := 671) K hs9 dL_law_670 rfl (fun x93 => ?_)
        refine x_cV (pc' := 674) (As := [xI x91, xI x92, xI x93]) (en := (fun v => some (xI v))) (rest := [xI x90]) K (fun a h1 hF => ct_X8_value hF) rfl (by decide) q1678 q1679 q1680 q1681 q105 hy_X8_value (Nat.le_of_ble_eq_true rfl) (Nat.le_of_ble_eq_true rfl) (Nat.le_of_ble_eq_true rfl) dL_law_671 rfl (fun x94 g95 => ?_)
        refine x_icmp_eq (tgt := 1584) (pc' := 677) K dL_law_674 rfl (by decide) ?_ ?_
        · refine x_iinc (pc' := 1587) (y := 6) (lv' := [(4, xI (v4 + 6)), (0, xR v0), (1, xR v1), (2, xR v2), (3, xR v3)]) K 4 dL_law_1584 rfl rfl (by decide) (by decide) rfl ?_
          refine x_goto (tgt := 23) K dL_law_1587 (by decide) ?_
          refine x_sub (lv' := [(0, xR v0), (1, xR v1), (2, xR v2), (3, xR v3), (4, xI (v4 + 6))]) [1, 2, 3, 4, 0] rfl ?_
          exact x_jump (fun hz => hj1 (v0, v1, v2, v3, (v4 + 6), g95) hz)
        · refine x_iconst (pc' := 678) (v := 0) K dL_law_677 rfl rfl ?_
          refine x_g (fun z => Sum.inr (Sum.inr z)) (x_C (C8 := (XEndL below args s Q)) (fun z hz => hd1 z hz) ?_)
          exact x_lawret K hb9 dL_law_678
      refine x_tsw (tgt := 679) K 10 dL_law_40 (by decide) rfl (by decide) ?_ (fun q10 => ?_)
      · refine x_aload_n (pc' := 680) K 1 dL_law_679 rfl rfl ?_
        refine x_cVO (pc' := 683) (As := []) (en := (fun v => some (xI v))) (rest := []) K (fun a hF => ct_X1_luck hF) rfl (by decide) q927 q928 q929 q930 q96 hy_X1_luck (Nat.le_of_ble_eq_true rfl) (Nat.le_of_ble_eq_true rfl) (Nat.le_of_ble_eq_true rfl) dL_law_680 rfl (fun x96 => ?_)
        refine x_aload_n (pc' := 684) K 2 dL_law_683 rfl rfl ?_
        refine x_cV (pc' := 687) (As := []) (en := (fun v => some (xI v))) (rest := [xI x96]) K (fun a h1 hF => ct_X8_luck hF) rfl (by decide) q1670 q1671 q1672 q1673 q105 hy_X8_luck (Nat.le_of_ble_eq_true rfl) (Nat.le_of_ble_eq_true rfl) (Nat.le_of_ble_eq_true rfl) dL_law_684 rfl (fun x97 g98 => ?_)
        refine x_icmp_eq (tgt := 1584) (pc' := 690) K dL_law_687 rfl (by decide) ?_ ?_
        · refine x_iinc (pc' := 1587) (y := 6) (lv' := [(4, xI (v4 + 6)), (0, xR v0), (1, xR v1), (2, xR v2), (3, xR v3)]) K 4 dL_law_1584 rfl rfl (by decide) (by decide) rfl ?_
          refine x_goto (tgt := 23) K dL_law_1587 (by decide) ?_
          refine x_sub (lv' := [(0, xR v0), (1, xR v1), (2, xR v2), (3, xR v3), (4, xI (v4 + 6))]) [1, 2, 3, 4, 0] rfl ?_
          exact x_jump (fun hz => hj1 (v0, v1, v2, v3, (v4 + 6), g98) hz)
        · refine x_iconst (pc' := 691) (v := 0) K dL_law_690 rfl rfl ?_
          refine x_g (fun z => Sum.inr (Sum.inr z)) (x_C (C8 := (XEndL below args s Q)) (fun z hz => hd1 z hz) ?_)
          exact x_lawret K hb9 dL_law_691
      refine x_tsw (tgt := 692) K 11 dL_law_40 (by decide) rfl (by decide) ?_ (fun q11 => ?_)
      · refine x_aload_n (pc' := 693) K 1 dL_law_692 rfl rfl ?_
        refine x_aload_n (pc' := 694) K 0 dL_law_693 rfl rfl ?_
        refine x_iload (pc' := 696) K 4 dL_law_694 rfl rfl ?_
        refine x_iconst (pc' := 697) (v := 1) K dL_law_696 rfl rfl ?_
        refine x_iadd (pc' := 698) K dL_law_697 rfl ?_
        refine x_sca (pc' := 699) K hs9 dL_law_698 rfl (fun x99 => ?_)
        refine x_aload_n (pc' := 700) K 0 dL_law_699 rfl rfl ?_
        refine x_iload (pc' := 702) K 4 dL_law_700 rfl rfl ?_
        refine x_iconst (pc' := 703) (v := 2) K dL_law_702 rfl rfl ?_
        refine x_iadd (pc' := 704) K dL_law_703 rfl ?_
        refine x_sca (pc' := 705) K hs9 dL_law_704 rfl (fun x100 => ?_)
        refine x_cVO (pc' := 708) (As := [xI x99, xI x100]) (en := (fun v => some (xI v))) (rest := []) K (fun a hF => ct_X1_bears hF) rfl (by decide) q931 q932 q933 q934 q96 hy_X1_bears (Nat.le_of_ble_eq_true rfl) (Nat.le_of_ble_eq_true rfl) (Nat.le_of_ble_eq_true rfl) dL_law_705 rfl (fun x101 => ?_)
        refine x_aload_n (pc' := 709) K 2 dL_law_708 rfl rfl ?_
        refine x_aload_n (pc' := 710) K 0 dL_law_709 rfl rfl ?_
        refine x_iload (pc' := 712) K 4 dL_law_710 rfl rfl ?_
        refine x_iconst (pc' := 713) (v := 1) K dL_law_712 rfl rfl ?_
        refine x_iadd (pc' := 714) K dL_law_713 rfl ?_
        refine x_sca (pc' := 715) K hs9 dL_law_714 rfl (fun x102 => ?_)
        refine x_aload_n (pc' := 716) K 0 dL_law_715 rfl rfl ?_
        refine x_iload (pc' := 718) K 4 dL_law_716 rfl rfl ?_
        refine x_iconst (pc' := 719) (v := 2) K dL_law_718 rfl rfl ?_
        refine x_iadd (pc' := 720) K dL_law_719 rfl ?_
        refine x_sca (pc' := 721) K hs9 dL_law_720 rfl (fun x103 => ?_)
        refine x_cV (pc' := 724) (As := [xI x102, xI x103]) (en := (fun v => some (xI v))) (rest := [xI x101]) K (fun a h1 hF => ct_X8_bears hF) rfl (by decide) q1690 q1691 q1692 q1693 q105 hy_X8_bears (Nat.le_of_ble_eq_true rfl) (Nat.le_of_ble_eq_true rfl) (Nat.le_of_ble_eq_true rfl) dL_law_721 rfl (fun x104 g105 => ?_)
        refine x_icmp_eq (tgt := 1584) (pc' := 727) K dL_law_724 rfl (by decide) ?_ ?_
        · refine x_iinc (pc' := 1587) (y := 6) (lv' := [(4, xI (v4 + 6)), (0, xR v0), (1, xR v1), (2, xR v2), (3, xR v3)]) K 4 dL_law_1584 rfl rfl (by decide) (by decide) rfl ?_
          refine x_goto (tgt := 23) K dL_law_1587 (by decide) ?_
          refine x_sub (lv' := [(0, xR v0), (1, xR v1), (2, xR v2), (3, xR v3), (4, xI (v4 + 6))]) [1, 2, 3, 4, 0] rfl ?_
          exact x_jump (fun hz => hj1 (v0, v1, v2, v3, (v4 + 6), g105) hz)
        · refine x_iconst (pc' := 728) (v := 0) K dL_law_727 rfl rfl ?_
          refine x_g (fun z => Sum.inr (Sum.inr z)) (x_C (C8 := (XEndL below args s Q)) (fun z hz => hd1 z hz) ?_)
          exact x_lawret K hb9 dL_law_728
      refine x_tsw (tgt := 729) K 12 dL_law_40 (by decide) rfl (by decide) ?_ (fun q12 => ?_)
      · refine x_aload_n (pc' := 730) K 1 dL_law_729 rfl rfl ?_
        refine x_aload_n (pc' := 731) K 0 dL_law_730 rfl rfl ?_
        refine x_iload (pc' := 733) K 4 dL_law_731 rfl rfl ?_
        refine x_iconst (pc' := 734) (v := 1) K dL_law_733 rfl rfl ?_
        refine x_iadd (pc' := 735) K dL_law_734 rfl ?_
        refine x_sca (pc' := 736) K hs9 dL_law_735 rfl (fun x106 => ?_)
        refine x_aload_n (pc' := 737) K 0 dL_law_736 rfl rfl ?_
        refine x_iload (pc' := 739) K 4 dL_law_737 rfl rfl ?_
        refine x_iconst (pc' := 740) (v := 2) K dL_law_739 rfl rfl ?_
        refine x_iadd (pc' := 741) K dL_law_740 rfl ?_
        refine x_sca (pc' := 742) K hs9 dL_law_741 rfl (fun x107 => ?_)
        refine x_aload_n (pc' := 743) K 0 dL_law_742 rfl rfl ?_
        refine x_iload (pc' := 745) K 4 dL_law_743 rfl rfl ?_
        refine x_iconst (pc' := 746) (v := 3) K dL_law_745 rfl rfl ?_
        refine x_iadd (pc' := 747) K dL_law_746 rfl ?_
        refine x_sca (pc' := 748) K hs9 dL_law_747 rfl (fun x108 => ?_)
        refine x_aload_n (pc' := 749) K 0 dL_law_748 rfl rfl ?_
        refine x_iload (pc' := 751) K 4 dL_law_749 rfl rfl ?_
        refine x_iconst (pc' := 752) (v := 4) K dL_law_751 rfl rfl ?_
        refine x_iadd (pc' := 753) K dL_law_752 rfl ?_
        refine x_sca (pc' := 754) K hs9 dL_law_753 rfl (fun x109 => ?_)
        refine x_cV (pc' := 757) (As := [xI x106, xI x107, xI x108, xI x109]) (en := (fun v => some (xI v))) (rest := []) K (fun a h1 hF => ct_X1_sale hF) rfl (by decide) q935 q936 q937 q938 q96 hy_X1_sale (Nat.le_of_ble_eq_true rfl) (Nat.le_of_ble_eq_true rfl) (Nat.le_of_ble_eq_true rfl) dL_law_754 rfl (fun x110 g111 => ?_)
        refine x_aload_n (pc' := 758) K 2 dL_law_757 rfl rfl ?_
        refine x_aload_n (pc' := 759) K 0 dL_law_758 rfl rfl ?_
        refine x_iload (pc' := 761) K 4 dL_law_759 rfl rfl ?_
        refine x_iconst (pc' := 762) (v := 1) K dL_law_761 rfl rfl ?_
        refine x_iadd (pc' := 763) K dL_law_762 rfl ?_
        refine x_sca (pc' := 764) K hs9 dL_law_763 rfl (fun x112 => ?_)
        refine x_aload_n (pc' := 765) K 0 dL_law_764 rfl rfl ?_
        refine x_iload (pc' := 767) K 4 dL_law_765 rfl rfl ?_
        refine x_iconst (pc' := 768) (v := 2) K dL_law_767 rfl rfl ?_
        refine x_iadd (pc' := 769) K dL_law_768 rfl ?_
        refine x_sca (pc' := 770) K hs9 dL_law_769 rfl (fun x113 => ?_)
        refine x_aload_n (pc' := 771) K 0 dL_law_770 rfl rfl ?_
        refine x_iload (pc' := 773) K 4 dL_law_771 rfl rfl ?_
        refine x_iconst (pc' := 774) (v := 3) K dL_law_773 rfl rfl ?_
        refine x_iadd (pc' := 775) K dL_law_774 rfl ?_
        refine x_sca (pc' := 776) K hs9 dL_law_775 rfl (fun x114 => ?_)
        refine x_aload_n (pc' := 777) K 0 dL_law_776 rfl rfl ?_
        refine x_iload (pc' := 779) K 4 dL_law_777 rfl rfl ?_
        refine x_iconst (pc' := 780) (v := 4) K dL_law_779 rfl rfl ?_
        refine x_iadd (pc' := 781) K dL_law_780 rfl ?_
        refine x_sca (pc' := 782) K hs9 dL_law_781 rfl (fun x115 => ?_)
        refine x_cV (pc' := 785) (As := [xI x112, xI x113, xI x114, xI x115]) (en := (fun v => some (xI v))) (rest := [xI x110]) K (fun a h1 hF => ct_X8_sale hF) rfl (by decide) q1694 q1695 q1696 q1697 q105 hy_X8_sale (Nat.le_of_ble_eq_true rfl) (Nat.le_of_ble_eq_true rfl) (Nat.le_of_ble_eq_true rfl) dL_law_782 rfl (fun x116 g117 => ?_)
        refine x_icmp_eq (tgt := 1584) (pc' := 788) K dL_law_785 rfl (by decide) ?_ ?_
        · refine x_iinc (pc' := 1587) (y := 6) (lv' := [(4, xI (v4 + 6)), (0, xR v0), (1, xR v1), (2, xR v2), (3, xR v3)]) K 4 dL_law_1584 rfl rfl (by decide) (by decide) rfl ?_
          refine x_goto (tgt := 23) K dL_law_1587 (by decide) ?_
          refine x_sub (lv' := [(0, xR v0), (1, xR v1), (2, xR v2), (3, xR v3), (4, xI (v4 + 6))]) [1, 2, 3, 4, 0] rfl ?_
          exact x_jump (fun hz => hj1 (v0, v1, v2, v3, (v4 + 6), g117) hz)
        · refine x_iconst (pc' := 789) (v := 0) K dL_law_788 rfl rfl ?_
          refine x_g (fun z => Sum.inr (Sum.inr z)) (x_C (C8 := (XEndL below args s Q)) (fun z hz => hd1 z hz) ?_)
          exact x_lawret K hb9 dL_law_789
      refine x_tsw (tgt := 790) K 13 dL_law_40 (by decide) rfl (by decide) ?_ (fun q13 => ?_)
      · refine x_aload_n (pc' := 791) K 1 dL_law_790 rfl rfl ?_
        refine x_cVO (pc' := 794) (As := []) (en := (fun v => some (xI v))) (rest := []) K (fun a hF => ct_X1_sales hF) rfl (by decide) q958 q959 q960 q961 q96 hy_X1_sales (Nat.le_of_ble_eq_true rfl) (Nat.le_of_ble_eq_true rfl) (Nat.le_of_ble_eq_true rfl) dL_law_791 rfl (fun x118 => ?_)
        refine x_aload_n (pc' := 795) K 2 dL_law_794 rfl rfl ?_
        refine x_cV (pc' := 798) (As := []) (en := (fun v => some (xI v))) (rest := [xI x118]) K (fun a h1 hF => ct_X8_sales hF) rfl (by decide) q1710 q1711 q1712 q1713 q105 hy_X8_sales (Nat.le_of_ble_eq_true rfl) (Nat.le_of_ble_eq_true rfl) (Nat.le_of_ble_eq_true rfl) dL_law_795 rfl (fun x119 g120 => ?_)
        refine x_icmp_eq (tgt := 1584) (pc' := 801) K dL_law_798 rfl (by decide) ?_ ?_
        · refine x_iinc (pc' := 1587) (y := 6) (lv' := [(4, xI (v4 + 6)), (0, xR v0), (1, xR v1), (2, xR v2), (3, xR v3)]) K 4 dL_law_1584 rfl rfl (by decide) (by decide) rfl ?_
          refine x_goto (tgt := 23) K dL_law_1587 (by decide) ?_
          refine x_sub (lv' := [(0, xR v0), (1, xR v1), (2, xR v2), (3, xR v3), (4, xI (v4 + 6))]) [1, 2, 3, 4, 0] rfl ?_
          exact x_jump (fun hz => hj1 (v0, v1, v2, v3, (v4 + 6), g120) hz)
        · refine x_iconst (pc' := 802) (v := 0) K dL_law_801 rfl rfl ?_
          refine x_g (fun z => Sum.inr (Sum.inr z)) (x_C (C8 := (XEndL below args s Q)) (fun z hz => hd1 z hz) ?_)
          exact x_lawret K hb9 dL_law_802
      refine x_tsw (tgt := 803) K 14 dL_law_40 (by decide) rfl (by decide) ?_ (fun q14 => ?_)
      · refine x_aload_n (pc' := 804) K 1 dL_law_803 rfl rfl ?_
        refine x_aload_n (pc' := 805) K 0 dL_law_804 rfl rfl ?_
        refine x_iload (pc' := 807) K 4 dL_law_805 rfl rfl ?_
        refine x_iconst (pc' := 808) (v := 1) K dL_law_807 rfl rfl ?_
        refine x_iadd (pc' := 809) K dL_law_808 rfl ?_
        refine x_sca (pc' := 810) K hs9 dL_law_809 rfl (fun x121 => ?_)
        refine x_aload_n (pc' := 811) K 0 dL_law_810 rfl rfl ?_
        refine x_iload (pc' := 813) K 4 dL_law_811 rfl rfl ?_
        refine x_iconst (pc' := 814) (v := 2) K dL_law_813 rfl rfl ?_
        refine x_iadd (pc' := 815) K dL_law_814 rfl ?_
        refine x_sca (pc' := 816) K hs9 dL_law_815 rfl (fun x122 => ?_)
        refine x_aload_n (pc' := 817) K 3 dL_law_816 rfl rfl ?_
        refine x_cSW (pc' := 820) (As := [xR v1, xI x121, xI x122, xR v3]) (en := (fun v => some (xI v))) (rest := []) K (fun a h1 hF => ct_X0_sold hl hF) rfl q1287 q1288 q1289 q95 hy_X0_sold (Nat.le_of_ble_eq_true rfl) (Nat.le_of_ble_eq_true rfl) (Nat.le_of_ble_eq_true rfl) dL_law_817 rfl (fun x123 g124 => ?_)
        refine x_istore (pc' := 822) (lv' := [(5, xI x123), (0, xR v0), (1, xR v1), (2, xR v2), (3, xR v3), (4, xI v4)]) K dL_law_820 rfl (by decide) rfl ?_
        refine x_aload_n (pc' := 823) K 3 dL_law_822 rfl rfl ?_
        refine x_aload_n (pc' := 824) K 1 dL_law_823 rfl rfl ?_
        refine x_iload (pc' := 826) K 5 dL_law_824 rfl rfl ?_
        refine x_iconst (pc' := 827) (v := 1) K dL_law_826 rfl rfl ?_
        refine x_iadd (pc' := 828) K dL_law_827 rfl ?_
        refine x_sca (pc' := 829) K hs9 dL_law_828 rfl (fun x125 => ?_)
        refine x_aload_n (pc' := 830) K 1 dL_law_829 rfl rfl ?_
        refine x_iload (pc' := 832) K 5 dL_law_830 rfl rfl ?_
        refine x_iconst (pc' := 833) (v := 2) K dL_law_832 rfl rfl ?_
        refine x_iadd (pc' := 834) K dL_law_833 rfl ?_
        refine x_sca (pc' := 835) K hs9 dL_law_834 rfl (fun x126 => ?_)
        refine x_cV (pc' := 838) (As := [xI x125, xI x126]) (en := (fun v => some (xI v))) (rest := []) K (fun a h1 hF => ct_X8_sold hF) rfl (by decide) q1714 q1715 q1716 q1717 q105 hy_X8_sold (Nat.le_of_ble_eq_true rfl) (Nat.le_of_ble_eq_true rfl) (Nat.le_of_ble_eq_true rfl) dL_law_835 rfl (fun x127 g128 => ?_)
        refine x_istore (pc' := 840) (lv' := [(6, xI x127), (5, xI x123), (0, xR v0), (1, xR v1), (2, xR v2), (3, xR v3), (4, xI v4)]) K dL_law_838 rfl (by decide) rfl ?_
        refine x_aload_n (pc' := 841) K 4 dL_law_840 rfl rfl ?_
        refine x_cVO (pc' := 844) (As := []) (en := (fun v => some (xI v))) (rest := []) K (fun a hF => ct_X8_thrown hF) rfl (by decide) q1455 q1456 q1457 q1458 q105 hy_X8_thrown (Nat.le_of_ble_eq_true rfl) (Nat.le_of_ble_eq_true rfl) (Nat.le_of_ble_eq_true rfl) dL_law_841 rfl (fun x129 => ?_)
        refine x_iload (pc' := 846) K 1 dL_law_844 rfl rfl ?_
        refine x_icmp_eq (tgt := 851) (pc' := 849) K dL_law_846 rfl (by decide) ?_ ?_
        · refine x_iload (pc' := 853) K 1 dL_law_851 rfl rfl ?_
          refine x_if_ne (tgt := 868) (pc' := 856) K dL_law_853 rfl (by decide) ?_ ?_
          · refine x_goto (tgt := 1584) K dL_law_868 (by decide) ?_
            refine x_iinc (pc' := 1587) (y := 6) (lv' := [(4, xI (v4 + 6)), (6, xI x127), (5, xI x123), (0, xR v0), (1, xR v1), (2, xR v2), (3, xR v3)]) K 6 dL_law_1584 rfl rfl (by decide) (by decide) rfl ?_
            refine x_goto (tgt := 23) K dL_law_1587 (by decide) ?_
            refine x_sub (lv' := [(0, xR v0), (1, xR v1), (2, xR v2), (3, xR v3), (4, xI (v4 + 6))]) [3, 4, 5, 6, 0] rfl ?_
            exact x_jump (fun hz => hj1 (v0, v1, v2, v3, (v4 + 6), g128) hz)
          · refine x_aload_n (pc' := 857) K 5 dL_law_856 rfl rfl ?_
            refine x_iconst (pc' := 858) (v := 0) K dL_law_857 rfl rfl ?_
            refine x_lald (pc' := 859) K dL_law_858 rfl (fun x130 => ?_)
            refine x_iload (pc' := 861) K 0 dL_law_859 rfl rfl ?_
            refine x_i2l (pc' := 862) K dL_law_861 rfl ?_
            refine x_lcmp (pc' := 863) K dL_law_862 rfl ?_
            refine x_if_eq (tgt := 868) (pc' := 866) K dL_law_863 rfl (by decide) ?_ ?_
            · refine x_goto (tgt := 1584) K dL_law_868 (by decide) ?_
              refine x_iinc (pc' := 1587) (y := 6) (lv' := [(4, xI (v4 + 6)), (6, xI x127), (5, xI x123), (0, xR v0), (1, xR v1), (2, xR v2), (3, xR v3)]) K 6 dL_law_1584 rfl rfl (by decide) (by decide) rfl ?_
              refine x_goto (tgt := 23) K dL_law_1587 (by decide) ?_
              refine x_sub (lv' := [(0, xR v0), (1, xR v1), (2, xR v2), (3, xR v3), (4, xI (v4 + 6))]) [3, 4, 5, 6, 0] rfl ?_
              exact x_jump (fun hz => hj1 (v0, v1, v2, v3, (v4 + 6), g128) hz)
            · refine x_iconst (pc' := 867) (v := 0) K dL_law_866 rfl rfl ?_
              refine x_g (fun z => Sum.inr (Sum.inr z)) (x_C (C8 := (XEndL below args s Q)) (fun z hz => hd1 z hz) ?_)
              exact x_lawret K hb9 dL_law_867
        · refine x_iconst (pc' := 850) (v := 0) K dL_law_849 rfl rfl ?_
          refine x_g (fun z => Sum.inr (Sum.inr z)) (x_C (C8 := (XEndL below args s Q)) (fun z hz => hd1 z hz) ?_)
          exact x_lawret K hb9 dL_law_850
      refine x_tsw (tgt := 871) K 15 dL_law_40 (by decide) rfl (by decide) ?_ (fun q15 => ?_)
      · refine x_aload_n (pc' := 872) K 1 dL_law_871 rfl rfl ?_
        refine x_aload_n (pc' := 873) K 0 dL_law_872 rfl rfl ?_
        refine x_iload (pc' := 875) K 4 dL_law_873 rfl rfl ?_
        refine x_iconst (pc' := 876) (v := 1) K dL_law_875 rfl rfl ?_
        refine x_iadd (pc' := 877) K dL_law_876 rfl ?_
        refine x_sca (pc' := 878) K hs9 dL_law_877 rfl (fun x131 => ?_)
        refine x_aload_n (pc' := 879) K 0 dL_law_878 rfl rfl ?_
        refine x_iload (pc' := 881) K 4 dL_law_879 rfl rfl ?_
        refine x_iconst (pc' := 882) (v := 2) K dL_law_881 rfl rfl ?_
        refine x_iadd (pc' := 883) K dL_law_882 rfl ?_
        refine x_sca (pc' := 884) K hs9 dL_law_883 rfl (fun x132 => ?_)
        refine x_aload_n (pc' := 885) K 0 dL_law_884 rfl rfl ?_
        refine x_iload (pc' := 887) K 4 dL_law_885 rfl rfl ?_
        refine x_iconst (pc' := 888) (v := 3) K dL_law_887 rfl rfl ?_
        refine x_iadd (pc' := 889) K dL_law_888 rfl ?_
        refine x_sca (pc' := 890) K hs9 dL_law_889 rfl (fun x133 => ?_)
        refine x_aload_n (pc' := 891) K 0 dL_law_890 rfl rfl ?_
        refine x_iload (pc' := 893) K 4 dL_law_891 rfl rfl ?_
        refine x_iconst (pc' := 894) (v := 4) K dL_law_893 rfl rfl ?_
        refine x_iadd (pc' := 895) K dL_law_894 rfl ?_
        refine x_sca (pc' := 896) K hs9 dL_law_895 rfl (fun x134 => ?_)
        refine x_cV (pc' := 899) (As := [xI x131, xI x132, xI x133, xI x134]) (en := (fun v => some (xI v))) (rest := []) K (fun a h1 hF => ct_X1_payment hF) rfl (by decide) q962 q963 q964 q965 q96 hy_X1_payment (Nat.le_of_ble_eq_true rfl) (Nat.le_of_ble_eq_true rfl) (Nat.le_of_ble_eq_true rfl) dL_law_896 rfl (fun x135 g136 => ?_)
        refine x_aload_n (pc' := 900) K 2 dL_law_899 rfl rfl ?_
        refine x_aload_n (pc' := 901) K 0 dL_law_900 rfl rfl ?_
        refine x_iload (pc' := 903) K 4 dL_law_901 rfl rfl ?_
        refine x_iconst (pc' := 904) (v := 1) K dL_law_903 rfl rfl ?_
        refine x_iadd (pc' := 905) K dL_law_904 rfl ?_
        refine x_sca (pc' := 906) K hs9 dL_law_905 rfl (fun x137 => ?_)
        refine x_aload_n (pc' := 907) K 0 dL_law_906 rfl rfl ?_
        refine x_iload (pc' := 909) K 4 dL_law_907 rfl rfl ?_
        refine x_iconst (pc' := 910) (v := 2) K dL_law_909 rfl rfl ?_
        refine x_iadd (pc' := 911) K dL_law_910 rfl ?_
        refine x_sca (pc' := 912) K hs9 dL_law_911 rfl (fun x138 => ?_)
        refine x_aload_n (pc' := 913) K 0 dL_law_912 rfl rfl ?_
        refine x_iload (pc' := 915) K 4 dL_law_913 rfl rfl ?_
        refine x_iconst (pc' := 916) (v := 3) K dL_law_915 rfl rfl ?_
        refine x_iadd (pc' := 917) K dL_law_916 rfl ?_
        refine x_sca (pc' := 918) K hs9 dL_law_917 rfl (fun x139 => ?_)
        refine x_aload_n (pc' := 919) K 0 dL_law_918 rfl rfl ?_
        refine x_iload (pc' := 921) K 4 dL_law_919 rfl rfl ?_
        refine x_iconst (pc' := 922) (v := 4) K dL_law_921 rfl rfl ?_
        refine x_iadd (pc' := 923) K dL_law_922 rfl ?_
        refine x_sca (pc' := 924) K hs9 dL_law_923 rfl (fun x140 => ?_)
        refine x_cV (pc' := 927) (As := [xI x137, xI x138, xI x139, xI x140]) (en := (fun v => some (xI v))) (rest := [xI x135]) K (fun a h1 hF => ct_X8_payment hF) rfl (by decide) q1718 q1719 q1720 q1721 q105 hy_X8_payment (Nat.le_of_ble_eq_true rfl) (Nat.le_of_ble_eq_true rfl) (Nat.le_of_ble_eq_true rfl) dL_law_924 rfl (fun x141 g142 => ?_)
        refine x_icmp_eq (tgt := 1584) (pc' := 930) K dL_law_927 rfl (by decide) ?_ ?_
        · refine x_iinc (pc' := 1587) (y := 6) (lv' := [(4, xI (v4 + 6)), (0, xR v0), (1, xR v1), (2, xR v2), (3, xR v3)]) K 4 dL_law_1584 rfl rfl (by decide) (by decide) rfl ?_
          refine x_goto (tgt := 23) K dL_law_1587 (by decide) ?_
          refine x_sub (lv' := [(0, xR v0), (1, xR v1), (2, xR v2), (3, xR v3), (4, xI (v4 + 6))]) [1, 2, 3, 4, 0] rfl ?_
          exact x_jump (fun hz => hj1 (v0, v1, v2, v3, (v4 + 6), g142) hz)
        · refine x_iconst (pc' := 931) (v := 0) K dL_law_930 rfl rfl ?_
          refine x_g (fun z => Sum.inr (Sum.inr z)) (x_C (C8 := (XEndL below args s Q)) (fun z hz => hd1 z hz) ?_)
          exact x_lawret K hb9 dL_law_931
      refine x_tsw (tgt := 932) K 16 dL_law_40 (by decide) rfl (by decide) ?_ (fun q16 => ?_)
      · refine x_aload_n (pc' := 933) K 1 dL_law_932 rfl rfl ?_
        refine x_aload_n (pc' := 934) K 0 dL_law_933 rfl rfl ?_
        refine x_iload (pc' := 936) K 4 dL_law_934 rfl rfl ?_
        refine x_iconst (pc' := 937) (v := 1) K dL_law_936 rfl rfl ?_
        refine x_iadd (pc' := 938) K dL_law_937 rfl ?_
        refine x_sca (pc' := 939) K hs9 dL_law_938 rfl (fun x143 => ?_)
        refine x_cVO (pc' := 942) (As := [xI x143]) (en := (fun v => some (xI v))) (rest := []) K (fun a hF => ct_X1_paid hF) rfl (by decide) q988 q989 q990 q991 q96 hy_X1_paid (Nat.le_of_ble_eq_true rfl) (Nat.le_of_ble_eq_true rfl) (Nat.le_of_ble_eq_true rfl) dL_law_939 rfl (fun x144 => ?_)
        refine x_aload_n (pc' := 943) K 2 dL_law_942 rfl rfl ?_
        refine x_aload_n (pc' := 944) K 0 dL_law_943 rfl rfl ?_
        refine x_iload (pc' := 946) K 4 dL_law_944 rfl rfl ?_
        refine x_iconst (pc' := 947) (v := 1) K dL_law_946 rfl rfl ?_
        refine x_iadd (pc' := 948) K dL_law_947 rfl ?_
        refine x_sca (pc' := 949) K hs9 dL_law_948 rfl (fun x145 => ?_)
        refine x_cV (pc' := 952) (As := [xI x145]) (en := (fun v => some (xI v))) (rest := [xI x144]) K (fun a h1 hF => ct_X8_paid hF) rfl (by decide) q1743 q1744 q1745 q1746 q105 hy_X8_paid (Nat.le_of_ble_eq_true rfl) (Nat.le_of_ble_eq_true rfl) (Nat.le_of_ble_eq_true rfl) dL_law_949 rfl (fun x146 g147 => ?_)
        refine x_icmp_eq (tgt := 1584) (pc' := 955) K dL_law_952 rfl (by decide) ?_ ?_
        · refine x_iinc (pc' := 1587) (y := 6) (lv' := [(4, xI (v4 + 6)), (0, xR v0), (1, xR v1), (2, xR v2), (3, xR v3)]) K 4 dL_law_1584 rfl rfl (by decide) (by decide) rfl ?_
          refine x_goto (tgt := 23) K dL_law_1587 (by decide) ?_
          refine x_sub (lv' := [(0, xR v0), (1, xR v1), (2, xR v2), (3, xR v3), (4, xI (v4 + 6))]) [1, 2, 3, 4, 0] rfl ?_
          exact x_jump (fun hz => hj1 (v0, v1, v2, v3, (v4 + 6), g147) hz)
        · refine x_iconst (pc' := 956) (v := 0) K dL_law_955 rfl rfl ?_
          refine x_g (fun z => Sum.inr (Sum.inr z)) (x_C (C8 := (XEndL below args s Q)) (fun z hz => hd1 z hz) ?_)
          exact x_lawret K hb9 dL_law_956
      refine x_tsw (tgt := 957) K 17 dL_law_40 (by decide) rfl (by decide) ?_ (fun q17 => ?_)
      · refine x_aload_n (pc' := 958) K 1 dL_law_957 rfl rfl ?_
        refine x_aload_n (pc' := 959) K 0 dL_law_958 rfl rfl ?_
        refine x_iload (pc' := 961) K 4 dL_law_959 rfl rfl ?_
        refine x_iconst (pc' := 962) (v := 1) K dL_law_961 rfl rfl ?_
        refine x_iadd (pc' := 963) K dL_law_962 rfl ?_
        refine x_sca (pc' := 964) K hs9 dL_law_963 rfl (fun x148 => ?_)
        refine x_aload_n (pc' := 965) K 0 dL_law_964 rfl rfl ?_
        refine x_iload (pc' := 967) K 4 dL_law_965 rfl rfl ?_
        refine x_iconst (pc' := 968) (v := 2) K dL_law_967 rfl rfl ?_
        refine x_iadd (pc' := 969) K dL_law_968 rfl ?_
        refine x_sca (pc' := 970) K hs9 dL_law_969 rfl (fun x149 => ?_)
        refine x_aload_n (pc' := 971) K 0 dL_law_970 rfl rfl ?_
        refine x_iload (pc' := 973) K 4 dL_law_971 rfl rfl ?_
        refine x_iconst (pc' := 974) (v := 3) K dL_law_973 rfl rfl ?_
        refine x_iadd (pc' := 975) K dL_law_974 rfl ?_
        refine x_sca (pc' := 976) K hs9 dL_law_975 rfl (fun x150 => ?_)
        refine x_aload_n (pc' := 977) K 0 dL_law_976 rfl rfl ?_
        refine x_iload (pc' := 979) K 4 dL_law_977 rfl rfl ?_
        refine x_iconst (pc' := 980) (v := 4) K dL_law_979 rfl rfl ?_
        refine x_iadd (pc' := 981) K dL_law_980 rfl ?_
        refine x_sca (pc' := 982) K hs9 dL_law_981 rfl (fun x151 => ?_)
        refine x_cV (pc' := 985) (As := [xI x148, xI x149, xI x150, xI x151]) (en := (fun v => some (xI v))) (rest := []) K (fun a h1 hF => ct_X1_buy hF) rfl (by decide) q992 q993 q994 q995 q96 hy_X1_buy (Nat.le_of_ble_eq_true rfl) (Nat.le_of_ble_eq_true rfl) (Nat.le_of_ble_eq_true rfl) dL_law_982 rfl (fun x152 g153 => ?_)
        refine x_aload_n (pc' := 986) K 2 dL_law_985 rfl rfl ?_
        refine x_aload_n (pc' := 987) K 0 dL_law_986 rfl rfl ?_
        refine x_iload (pc' := 989) K 4 dL_law_987 rfl rfl ?_
        refine x_iconst (pc' := 990) (v := 1) K dL_law_989 rfl rfl ?_
        refine x_iadd (pc' := 991) K dL_law_990 rfl ?_
        refine x_sca (pc' := 992) K hs9 dL_law_991 rfl (fun x154 => ?_)
        refine x_aload_n (pc' := 993) K 0 dL_law_992 rfl rfl ?_
        refine x_iload (pc' := 995) K 4 dL_law_993 rfl rfl ?_
        refine x_iconst (pc' := 996) (v := 2) K dL_law_995 rfl rfl ?_
        refine x_iadd (pc' := 997) K dL_law_996 rfl ?_
        refine x_sca (pc' := 998) K hs9 dL_law_997 rfl (fun x155 => ?_)
        refine x_aload_n (pc' := 999) K 0 dL_law_998 rfl rfl ?_
        refine x_iload (pc' := 1001) K 4 dL_law_999 rfl rfl ?_
        refine x_iconst (pc' := 1002) (v := 3) K dL_law_1001 rfl rfl ?_
        refine x_iadd (pc' := 1003) K dL_law_1002 rfl ?_
        refine x_sca (pc' := 1004) K hs9 dL_law_1003 rfl (fun x156 => ?_)
        refine x_aload_n (pc' := 1005) K 0 dL_law_1004 rfl rfl ?_
        refine x_iload (pc' := 1007) K 4 dL_law_1005 rfl rfl ?_
        refine x_iconst (pc' := 1008) (v := 4) K dL_law_1007 rfl rfl ?_
        refine x_iadd (pc' := 1009) K dL_law_1008 rfl ?_
        refine x_sca (pc' := 1010) K hs9 dL_law_1009 rfl (fun x157 => ?_)
        refine x_cV (pc' := 1013) (As := [xI x154, xI x155, xI x156, xI x157]) (en := (fun v => some (xI v))) (rest := [xI x152]) K (fun a h1 hF => ct_X8_buy hF) rfl (by decide) q1747 q1748 q1749 q1750 q105 hy_X8_buy (Nat.le_of_ble_eq_true rfl) (Nat.le_of_ble_eq_true rfl) (Nat.le_of_ble_eq_true rfl) dL_law_1010 rfl (fun x158 g159 => ?_)
        refine x_icmp_eq (tgt := 1584) (pc' := 1016) K dL_law_1013 rfl (by decide) ?_ ?_
        · refine x_iinc (pc' := 1587) (y := 6) (lv' := [(4, xI (v4 + 6)), (0, xR v0), (1, xR v1), (2, xR v2), (3, xR v3)]) K 4 dL_law_1584 rfl rfl (by decide) (by decide) rfl ?_
          refine x_goto (tgt := 23) K dL_law_1587 (by decide) ?_
          refine x_sub (lv' := [(0, xR v0), (1, xR v1), (2, xR v2), (3, xR v3), (4, xI (v4 + 6))]) [1, 2, 3, 4, 0] rfl ?_
          exact x_jump (fun hz => hj1 (v0, v1, v2, v3, (v4 + 6), g159) hz)
        · refine x_iconst (pc' := 1017) (v := 0) K dL_law_1016 rfl rfl ?_
          refine x_g (fun z => Sum.inr (Sum.inr z)) (x_C (C8 := (XEndL below args s Q)) (fun z hz => hd1 z hz) ?_)
          exact x_lawret K hb9 dL_law_1017
      refine x_tsw (tgt := 1018) K 18 dL_law_40 (by decide) rfl (by decide) ?_ (fun q18 => ?_)
      · refine x_aload_n (pc' := 1019) K 1 dL_law_1018 rfl rfl ?_
        refine x_aload_n (pc' := 1020) K 0 dL_law_1019 rfl rfl ?_
        refine x_iload (pc' := 1022) K 4 dL_law_1020 rfl rfl ?_
        refine x_iconst (pc' := 1023) (v := 1) K dL_law_1022 rfl rfl ?_
        refine x_iadd (pc' := 1024) K dL_law_1023 rfl ?_
        refine x_sca (pc' := 1025) K hs9 dL_law_1024 rfl (fun x160 => ?_)
        refine x_aload_n (pc' := 1026) K 0 dL_law_1025 rfl rfl ?_
        refine x_iload (pc' := 1028) K 4 dL_law_1026 rfl rfl ?_
        refine x_iconst (pc' := 1029) (v := 2) K dL_law_1028 rfl rfl ?_
        refine x_iadd (pc' := 1030) K dL_law_1029 rfl ?_
        refine x_sca (pc' := 1031) K hs9 dL_law_1030 rfl (fun x161 => ?_)
        refine x_cV (pc' := 1034) (As := [xI x160, xI x161]) (en := (fun v => some (xI v))) (rest := []) K (fun a h1 hF => ct_X1_steal hF) rfl (by decide) q1004 q1005 q1006 q1007 q96 hy_X1_steal (Nat.le_of_ble_eq_true rfl) (Nat.le_of_ble_eq_true rfl) (Nat.le_of_ble_eq_true rfl) dL_law_1031 rfl (fun x162 g163 => ?_)
        refine x_aload_n (pc' := 1035) K 2 dL_law_1034 rfl rfl ?_
        refine x_aload_n (pc' := 1036) K 0 dL_law_1035 rfl rfl ?_
        refine x_iload (pc' := 1038) K 4 dL_law_1036 rfl rfl ?_
        refine x_iconst (pc' := 1039) (v := 1) K dL_law_1038 rfl rfl ?_
        refine x_iadd (pc' := 1040) K dL_law_1039 rfl ?_
        refine x_sca (pc' := 1041) K hs9 dL_law_1040 rfl (fun x164 => ?_)
        refine x_aload_n (pc' := 1042) K 0 dL_law_1041 rfl rfl ?_
        refine x_iload (pc' := 1044) K 4 dL_law_1042 rfl rfl ?_
        refine x_iconst (pc' := 1045) (v := 2) K dL_law_1044 rfl rfl ?_
        refine x_iadd (pc' := 1046) K dL_law_1045 rfl ?_
        refine x_sca (pc' := 1047) K hs9 dL_law_1046 rfl (fun x165 => ?_)
        refine x_cV (pc' := 1050) (As := [xI x164, xI x165]) (en := (fun v => some (xI v))) (rest := [xI x162]) K (fun a h1 hF => ct_X8_steal hF) rfl (by decide) q1759 q1760 q1761 q1762 q105 hy_X8_steal (Nat.le_of_ble_eq_true rfl) (Nat.le_of_ble_eq_true rfl) (Nat.le_of_ble_eq_true rfl) dL_law_1047 rfl (fun x166 g167 => ?_)
        refine x_icmp_eq (tgt := 1584) (pc' := 1053) K dL_law_1050 rfl (by decide) ?_ ?_
        · refine x_iinc (pc' := 1587) (y := 6) (lv' := [(4, xI (v4 + 6)), (0, xR v0), (1, xR v1), (2, xR v2), (3, xR v3)]) K 4 dL_law_1584 rfl rfl (by decide) (by decide) rfl ?_
          refine x_goto (tgt := 23) K dL_law_1587 (by decide) ?_
          refine x_sub (lv' := [(0, xR v0), (1, xR v1), (2, xR v2), (3, xR v3), (4, xI (v4 + 6))]) [1, 2, 3, 4, 0] rfl ?_
          exact x_jump (fun hz => hj1 (v0, v1, v2, v3, (v4 + 6), g167) hz)
        · refine x_iconst (pc' := 1054) (v := 0) K dL_law_1053 rfl rfl ?_
          refine x_g (fun z => Sum.inr (Sum.inr z)) (x_C (C8 := (XEndL below args s Q)) (fun z hz => hd1 z hz) ?_)
          exact x_lawret K hb9 dL_law_1054
      refine x_tsw (tgt := 1055) K 19 dL_law_40 (by decide) rfl (by decide) ?_ (fun q19 => ?_)
      · refine x_aload_n (pc' := 1056) K 1 dL_law_1055 rfl rfl ?_
        refine x_aload_n (pc' := 1057) K 0 dL_law_1056 rfl rfl ?_
        refine x_iload (pc' := 1059) K 4 dL_law_1057 rfl rfl ?_
        refine x_iconst (pc' := 1060) (v := 1) K dL_law_1059 rfl rfl ?_
        refine x_iadd (pc' := 1061) K dL_law_1060 rfl ?_
        refine x_sca (pc' := 1062) K hs9 dL_law_1061 rfl (fun x168 => ?_)
        refine x_aload_n (pc' := 1063) K 0 dL_law_1062 rfl rfl ?_
        refine x_iload (pc' := 1065) K 4 dL_law_1063 rfl rfl ?_
        refine x_iconst (pc' := 1066) (v := 2) K dL_law_1065 rfl rfl ?_
        refine x_iadd (pc' := 1067) K dL_law_1066 rfl ?_
        refine x_sca (pc' := 1068) K hs9 dL_law_1067 rfl (fun x169 => ?_)
        refine x_cV (pc' := 1071) (As := [xI x168, xI x169]) (en := (fun v => some (xI v))) (rest := []) K (fun a h1 hF => ct_X1_forge hF) rfl (by decide) q1008 q1009 q1010 q1011 q96 hy_X1_forge (Nat.le_of_ble_eq_true rfl) (Nat.le_of_ble_eq_true rfl) (Nat.le_of_ble_eq_true rfl) dL_law_1068 rfl (fun x170 g171 => ?_)
        refine x_aload_n (pc' := 1072) K 2 dL_law_1071 rfl rfl ?_
        refine x_aload_n (pc' := 1073) K 0 dL_law_1072 rfl rfl ?_
        refine x_iload (pc' := 1075) K 4 dL_law_1073 rfl rfl ?_
        refine x_iconst (pc' := 1076) (v := 1) K dL_law_1075 rfl rfl ?_
        refine x_iadd (pc' := 1077) K dL_law_1076 rfl ?_
        refine x_sca (pc' := 1078) K hs9 dL_law_1077 rfl (fun x172 => ?_)
        refine x_aload_n (pc' := 1079) K 0 dL_law_1078 rfl rfl ?_
        refine x_iload (pc' := 1081) K 4 dL_law_1079 rfl rfl ?_
        refine x_iconst (pc' := 1082) (v := 2) K dL_law_1081 rfl rfl ?_
        refine x_iadd (pc' := 1083) K dL_law_1082 rfl ?_
        refine x_sca (pc' := 1084) K hs9 dL_law_1083 rfl (fun x173 => ?_)
        refine x_cV (pc' := 1087) (As := [xI x172, xI x173]) (en := (fun v => some (xI v))) (rest := [xI x170]) K (fun a h1 hF => ct_X8_forge hF) rfl (by decide) q1763 q1764 q1765 q1766 q105 hy_X8_forge (Nat.le_of_ble_eq_true rfl) (Nat.le_of_ble_eq_true rfl) (Nat.le_of_ble_eq_true rfl) dL_law_1084 rfl (fun x174 g175 => ?_)
        refine x_icmp_eq (tgt := 1584) (pc' := 1090) K dL_law_1087 rfl (by decide) ?_ ?_
        · refine x_iinc (pc' := 1587) (y := 6) (lv' := [(4, xI (v4 + 6)), (0, xR v0), (1, xR v1), (2, xR v2), (3, xR v3)]) K 4 dL_law_1584 rfl rfl (by decide) (by decide) rfl ?_
          refine x_goto (tgt := 23) K dL_law_1587 (by decide) ?_
          refine x_sub (lv' := [(0, xR v0), (1, xR v1), (2, xR v2), (3, xR v3), (4, xI (v4 + 6))]) [1, 2, 3, 4, 0] rfl ?_
          exact x_jump (fun hz => hj1 (v0, v1, v2, v3, (v4 + 6), g175) hz)
        · refine x_iconst (pc' := 1091) (v := 0) K dL_law_1090 rfl rfl ?_
          refine x_g (fun z => Sum.inr (Sum.inr z)) (x_C (C8 := (XEndL below args s Q)) (fun z hz => hd1 z hz) ?_)
          exact x_lawret K hb9 dL_law_1091
      refine x_tsw (tgt := 1092) K 20 dL_law_40 (by decide) rfl (by decide) ?_ (fun q20 => ?_)
      · refine x_aload_n (pc' := 1093) K 1 dL_law_1092 rfl rfl ?_
        refine x_cV (pc' := 1096) (As := []) (en := (fun v => some (xI v))) (rest := []) K (fun a h1 hF => ct_X1_day hF) rfl (by decide) q1012 q1013 q1014 q1015 q96 hy_X1_day (Nat.le_of_ble_eq_true rfl) (Nat.le_of_ble_eq_true rfl) (Nat.le_of_ble_eq_true rfl) dL_law_1093 rfl (fun x176 g177 => ?_)
        refine x_aload_n (pc' := 1097) K 2 dL_law_1096 rfl rfl ?_
        refine x_cV (pc' := 1100) (As := []) (en := (fun v => some (xI v))) (rest := [xI x176]) K (fun a h1 hF => ct_X8_day hF) rfl (by decide) q1767 q1768 q1769 q1770 q105 hy_X8_day (Nat.le_of_ble_eq_true rfl) (Nat.le_of_ble_eq_true rfl) (Nat.le_of_ble_eq_true rfl) dL_law_1097 rfl (fun x178 g179 => ?_)
        refine x_icmp_eq (tgt := 1584) (pc' := 1103) K dL_law_1100 rfl (by decide) ?_ ?_
        · refine x_iinc (pc' := 1587) (y := 6) (lv' := [(4, xI (v4 + 6)), (0, xR v0), (1, xR v1), (2, xR v2), (3, xR v3)]) K 4 dL_law_1584 rfl rfl (by decide) (by decide) rfl ?_
          refine x_goto (tgt := 23) K dL_law_1587 (by decide) ?_
          refine x_sub (lv' := [(0, xR v0), (1, xR v1), (2, xR v2), (3, xR v3), (4, xI (v4 + 6))]) [1, 2, 3, 4, 0] rfl ?_
          exact x_jump (fun hz => hj1 (v0, v1, v2, v3, (v4 + 6), g179) hz)
        · refine x_iconst (pc' := 1104) (v := 0) K dL_law_1103 rfl rfl ?_
          refine x_g (fun z => Sum.inr (Sum.inr z)) (x_C (C8 := (XEndL below args s Q)) (fun z hz => hd1 z hz) ?_)
          exact x_lawret K hb9 dL_law_1104
      refine x_tsw (tgt := 1105) K 21 dL_law_40 (by decide) rfl (by decide) ?_ (fun q21 => ?_)
      · refine x_aload_n (pc' := 1106) K 1 dL_law_1105 rfl rfl ?_
        refine x_aload_n (pc' := 1107) K 0 dL_law_1106 rfl rfl ?_
        refine x_iload (pc' := 1109) K 4 dL_law_1107 rfl rfl ?_
        refine x_iconst (pc' := 1110) (v := 1) K dL_law_1109 rfl rfl ?_
        refine x_iadd (pc' := 1111) K dL_law_1110 rfl ?_
        refine x_sca (pc' := 1112) K hs9 dL_law_1111 rfl (fun x180 => ?_)
        refine x_aload_n (pc' := 1113) K 0 dL_law_1112 rfl rfl ?_
        refine x_iload (pc' := 1115) K 4 dL_law_1113 rfl rfl ?_
        refine x_iconst (pc' := 1116) (v := 2) K dL_law_1115 rfl rfl ?_
        refine x_iadd (pc' := 1117) K dL_law_1116 rfl ?_
        refine x_sca (pc' := 1118) K hs9 dL_law_1117 rfl (fun x181 => ?_)
        refine x_cV (pc' := 1121) (As := [xI x180, xI x181]) (en := (fun v => some (xI v))) (rest := []) K (fun a h1 hF => ct_X1_rob hF) rfl (by decide) q1020 q1021 q1022 q1023 q96 hy_X1_rob (Nat.le_of_ble_eq_true rfl) (Nat.le_of_ble_eq_true rfl) (Nat.le_of_ble_eq_true rfl) dL_law_1118 rfl (fun x182 g183 => ?_)
        refine x_aload_n (pc' := 1122) K 2 dL_law_1121 rfl rfl ?_
        refine x_aload_n (pc' := 1123) K 0 dL_law_1122 rfl rfl ?_
        refine x_iload (pc' := 1125) K 4 dL_law_1123 rfl rfl ?_
        refine x_iconst (pc' := 1126) (v := 1) K dL_law_1125 rfl rfl ?_
        refine x_iadd (pc' := 1127) K dL_law_1126 rfl ?_
        refine x_sca (pc' := 1128) K hs9 dL_law_1127 rfl (fun x184 => ?_)
        refine x_aload_n (pc' := 1129) K 0 dL_law_1128 rfl rfl ?_
        refine x_iload (pc' := 1131) K 4 dL_law_1129 rfl rfl ?_
        refine x_iconst (pc' := 1132) (v := 2) K dL_law_1131 rfl rfl ?_
        refine x_iadd (pc' := 1133) K dL_law_1132 rfl ?_
        refine x_sca (pc' := 1134) K hs9 dL_law_1133 rfl (fun x185 => ?_)
        refine x_cV (pc' := 1137) (As := [xI x184, xI x185]) (en := (fun v => some (xI v))) (rest := [xI x182]) K (fun a h1 hF => ct_X8_rob hF) rfl (by decide) q1775 q1776 q1777 q1778 q105 hy_X8_rob (Nat.le_of_ble_eq_true rfl) (Nat.le_of_ble_eq_true rfl) (Nat.le_of_ble_eq_true rfl) dL_law_1134 rfl (fun x186 g187 => ?_)
        refine x_icmp_eq (tgt := 1584) (pc' := 1140) K dL_law_1137 rfl (by decide) ?_ ?_
        · refine x_iinc (pc' := 1587) (y := 6) (lv' := [(4, xI (v4 + 6)), (0, xR v0), (1, xR v1), (2, xR v2), (3, xR v3)]) K 4 dL_law_1584 rfl rfl (by decide) (by decide) rfl ?_
          refine x_goto (tgt := 23) K dL_law_1587 (by decide) ?_
          refine x_sub (lv' := [(0, xR v0), (1, xR v1), (2, xR v2), (3, xR v3), (4, xI (v4 + 6))]) [1, 2, 3, 4, 0] rfl ?_
          exact x_jump (fun hz => hj1 (v0, v1, v2, v3, (v4 + 6), g187) hz)
        · refine x_iconst (pc' := 1141) (v := 0) K dL_law_1140 rfl rfl ?_
          refine x_g (fun z => Sum.inr (Sum.inr z)) (x_C (C8 := (XEndL below args s Q)) (fun z hz => hd1 z hz) ?_)
          exact x_lawret K hb9 dL_law_1141
      refine x_tsw (tgt := 1142) K 22 dL_law_40 (by decide) rfl (by decide) ?_ (fun q22 => ?_)
      · refine x_aload_n (pc' := 1143) K 1 dL_law_1142 rfl rfl ?_
        refine x_aload_n (pc' := 1144) K 0 dL_law_1143 rfl rfl ?_
        refine x_iload (pc' := 1146) K 4 dL_law_1144 rfl rfl ?_
        refine x_iconst (pc' := 1147) (v := 1) K dL_law_1146 rfl rfl ?_
        refine x_iadd (pc' := 1148) K dL_law_1147 rfl ?_
        refine x_sca (pc' := 1149) K hs9 dL_law_1148 rfl (fun x188 => ?_)
        refine x_aload_n (pc' := 1150) K 0 dL_law_1149 rfl rfl ?_
        refine x_iload (pc' := 1152) K 4 dL_law_1150 rfl rfl ?_
        refine x_iconst (pc' := 1153) (v := 2) K dL_law_1152 rfl rfl ?_
        refine x_iadd (pc' := 1154) K dL_law_1153 rfl ?_
        refine x_sca (pc' := 1155) K hs9 dL_law_1154 rfl (fun x189 => ?_)
        refine x_cV (pc' := 1158) (As := [xI x188, xI x189]) (en := (fun v => some (xI v))) (rest := []) K (fun a h1 hF => ct_X1_dies hF) rfl (by decide) q1024 q1025 q1026 q1027 q96 hy_X1_dies (Nat.le_of_ble_eq_true rfl) (Nat.le_of_ble_eq_true rfl) (Nat.le_of_ble_eq_true rfl) dL_law_1155 rfl (fun x190 g191 => ?_)
        refine x_aload_n (pc' := 1159) K 2 dL_law_1158 rfl rfl ?_
        refine x_aload_n (pc' := 1160) K 0 dL_law_1159 rfl rfl ?_
        refine x_iload (pc' := 1162) K 4 dL_law_1160 rfl rfl ?_
        refine x_iconst (pc' := 1163) (v := 1) K dL_law_1162 rfl rfl ?_
        refine x_iadd (pc' := 1164) K dL_law_1163 rfl ?_
        refine x_sca (pc' := 1165) K hs9 dL_law_1164 rfl (fun x192 => ?_)
        refine x_aload_n (pc' := 1166) K 0 dL_law_1165 rfl rfl ?_
        refine x_iload (pc' := 1168) K 4 dL_law_1166 rfl rfl ?_
        refine x_iconst (pc' := 1169) (v := 2) K dL_law_1168 rfl rfl ?_
        refine x_iadd (pc' := 1170) K dL_law_1169 rfl ?_
        refine x_sca (pc' := 1171) K hs9 dL_law_1170 rfl (fun x193 => ?_)
        refine x_cV (pc' := 1174) (As := [xI x192, xI x193]) (en := (fun v => some (xI v))) (rest := [xI x190]) K (fun a h1 hF => ct_X8_dies hF) rfl (by decide) q1779 q1780 q1781 q1782 q105 hy_X8_dies (Nat.le_of_ble_eq_true rfl) (Nat.le_of_ble_eq_true rfl) (Nat.le_of_ble_eq_true rfl) dL_law_1171 rfl (fun x194 g195 => ?_)
        refine x_icmp_eq (tgt := 1584) (pc' := 1177) K dL_law_1174 rfl (by decide) ?_ ?_
        · refine x_iinc (pc' := 1587) (y := 6) (lv' := [(4, xI (v4 + 6)), (0, xR v0), (1, xR v1), (2, xR v2), (3, xR v3)]) K 4 dL_law_1584 rfl rfl (by decide) (by decide) rfl ?_
          refine x_goto (tgt := 23) K dL_law_1587 (by decide) ?_
          refine x_sub (lv' := [(0, xR v0), (1, xR v1), (2, xR v2), (3, xR v3), (4, xI (v4 + 6))]) [1, 2, 3, 4, 0] rfl ?_
          exact x_jump (fun hz => hj1 (v0, v1, v2, v3, (v4 + 6), g195) hz)
        · refine x_iconst (pc' := 1178) (v := 0) K dL_law_1177 rfl rfl ?_
          refine x_g (fun z => Sum.inr (Sum.inr z)) (x_C (C8 := (XEndL below args s Q)) (fun z hz => hd1 z hz) ?_)
          exact x_lawret K hb9 dL_law_1178
      refine x_tsw (tgt := 1179) K 23 dL_law_40 (by decide) rfl (by decide) ?_ (fun q23 => ?_)
      · refine x_aload_n (pc' := 1180) K 1 dL_law_1179 rfl rfl ?_
        refine x_aload_n (pc' := 1181) K 0 dL_law_1180 rfl rfl ?_
        refine x_iload (pc' := 1183) K 4 dL_law_1181 rfl rfl ?_
        refine x_iconst (pc' := 1184) (v := 1) K dL_law_1183 rfl rfl ?_
        refine x_iadd (pc' := 1185) K dL_law_1184 rfl ?_
        refine x_sca (pc' := 1186) K hs9 dL_law_1185 rfl (fun x196 => ?_)
        refine x_cV (pc' := 1189) (As := [xI x196]) (en := (fun v => some (xI v))) (rest := []) K (fun a h1 hF => ct_X1_close hF) rfl (by decide) q1028 q1029 q1030 q1031 q96 hy_X1_close (Nat.le_of_ble_eq_true rfl) (Nat.le_of_ble_eq_true rfl) (Nat.le_of_ble_eq_true rfl) dL_law_1186 rfl (fun x197 g198 => ?_)
        refine x_aload_n (pc' := 1190) K 2 dL_law_1189 rfl rfl ?_
        refine x_aload_n (pc' := 1191) K 0 dL_law_1190 rfl rfl ?_
        refine x_iload (pc' := 1193) K 4 dL_law_1191 rfl rfl ?_
        refine x_iconst (pc' := 1194) (v := 1) K dL_law_1193 rfl rfl ?_
        refine x_iadd (pc' := 1195) K dL_law_1194 rfl ?_
        refine x_sca (pc' := 1196) K hs9 dL_law_1195 rfl (fun x199 => ?_)
        refine x_cV (pc' := 1199) (As := [xI x199]) (en := (fun v => some (xI v))) (rest := [xI x197]) K (fun a h1 hF => ct_X8_close hF) rfl (by decide) q1783 q1784 q1785 q1786 q105 hy_X8_close (Nat.le_of_ble_eq_true rfl) (Nat.le_of_ble_eq_true rfl) (Nat.le_of_ble_eq_true rfl) dL_law_1196 rfl (fun x200 g201 => ?_)
        refine x_icmp_eq (tgt := 1584) (pc' := 1202) K dL_law_1199 rfl (by decide) ?_ ?_
        · refine x_iinc (pc' := 1587) (y := 6) (lv' := [(4, xI (v4 + 6)), (0, xR v0), (1, xR v1), (2, xR v2), (3, xR v3)]) K 4 dL_law_1584 rfl rfl (by decide) (by decide) rfl ?_
          refine x_goto (tgt := 23) K dL_law_1587 (by decide) ?_
          refine x_sub (lv' := [(0, xR v0), (1, xR v1), (2, xR v2), (3, xR v3), (4, xI (v4 + 6))]) [1, 2, 3, 4, 0] rfl ?_
          exact x_jump (fun hz => hj1 (v0, v1, v2, v3, (v4 + 6), g201) hz)
        · refine x_iconst (pc' := 1203) (v := 0) K dL_law_1202 rfl rfl ?_
          refine x_g (fun z => Sum.inr (Sum.inr z)) (x_C (C8 := (XEndL below args s Q)) (fun z hz => hd1 z hz) ?_)
          exact x_lawret K hb9 dL_law_1203
      refine x_tsw (tgt := 1204) K 24 dL_law_40 (by decide) rfl (by decide) ?_ (fun q24 => ?_)
      · refine x_aload_n (pc' := 1205) K 1 dL_law_1204 rfl rfl ?_
        refine x_cVO (pc' := 1208) (As := []) (en := (fun v => some (xI v))) (rest := []) K (fun a hF => ct_X1_strokes hF) rfl (by decide) q1032 q1033 q1034 q1035 q96 hy_X1_strokes (Nat.le_of_ble_eq_true rfl) (Nat.le_of_ble_eq_true rfl) (Nat.le_of_ble_eq_true rfl) dL_law_1205 rfl (fun x202 => ?_)
        refine x_aload_n (pc' := 1209) K 2 dL_law_1208 rfl rfl ?_
        refine x_cV (pc' := 1212) (As := []) (en := (fun v => some (xI v))) (rest := [xI x202]) K (fun a h1 hF => ct_X8_strokes hF) rfl (by decide) q1787 q1788 q1789 q1790 q105 hy_X8_strokes (Nat.le_of_ble_eq_true rfl) (Nat.le_of_ble_eq_true rfl) (Nat.le_of_ble_eq_true rfl) dL_law_1209 rfl (fun x203 g204 => ?_)
        refine x_icmp_eq (tgt := 1584) (pc' := 1215) K dL_law_1212 rfl (by decide) ?_ ?_
        · refine x_iinc (pc' := 1587) (y := 6) (lv' := [(4, xI (v4 + 6)), (0, xR v0), (1, xR v1), (2, xR v2), (3, xR v3)]) K 4 dL_law_1584 rfl rfl (by decide) (by decide) rfl ?_
          refine x_goto (tgt := 23) K dL_law_1587 (by decide) ?_
          refine x_sub (lv' := [(0, xR v0), (1, xR v1), (2, xR v2), (3, xR v3), (4, xI (v4 + 6))]) [1, 2, 3, 4, 0] rfl ?_
          exact x_jump (fun hz => hj1 (v0, v1, v2, v3, (v4 + 6), g204) hz)
        · refine x_iconst (pc' := 1216) (v := 0) K dL_law_1215 rfl rfl ?_
          refine x_g (fun z => Sum.inr (Sum.inr z)) (x_C (C8 := (XEndL below args s Q)) (fun z hz => hd1 z hz) ?_)
          exact x_lawret K hb9 dL_law_1216
      refine x_tsw (tgt := 1217) K 25 dL_law_40 (by decide) rfl (by decide) ?_ (fun q25 => ?_)
      · refine x_aload_n (pc' := 1218) K 1 dL_law_1217 rfl rfl ?_
        refine x_aload_n (pc' := 1219) K 0 dL_law_1218 rfl rfl ?_
        refine x_iload (pc' := 1221) K 4 dL_law_1219 rfl rfl ?_
        refine x_iconst (pc' := 1222) (v := 1) K dL_law_1221 rfl rfl ?_
        refine x_iadd (pc' := 1223) K dL_law_1222 rfl ?_
        refine x_sca (pc' := 1224) K hs9 dL_law_1223 rfl (fun x205 => ?_)
        refine x_aload_n (pc' := 1225) K 0 dL_law_1224 rfl rfl ?_
        refine x_iload (pc' := 1227) K 4 dL_law_1225 rfl rfl ?_
        refine x_iconst (pc' := 1228) (v := 2) K dL_law_1227 rfl rfl ?_
        refine x_iadd (pc' := 1229) K dL_law_1228 rfl ?_
        refine x_sca (pc' := 1230) K hs9 dL_law_1229 rfl (fun x206 => ?_)
        refine x_aload_n (pc' := 1231) K 3 dL_law_1230 rfl rfl ?_
        refine x_cSW (pc' := 1234) (As := [xR v1, xI x205, xI x206, xR v3]) (en := (fun v => some (xI v))) (rest := []) K (fun a h1 hF => ct_X0_stroke hl hF) rfl q1294 q1295 q1296 q95 hy_X0_stroke (Nat.le_of_ble_eq_true rfl) (Nat.le_of_ble_eq_true rfl) (Nat.le_of_ble_eq_true rfl) dL_law_1231 rfl (fun x207 g208 => ?_)
        refine x_istore (pc' := 1236) (lv' := [(5, xI x207), (0, xR v0), (1, xR v1), (2, xR v2), (3, xR v3), (4, xI v4)]) K dL_law_1234 rfl (by decide) rfl ?_
        refine x_aload_n (pc' := 1237) K 3 dL_law_1236 rfl rfl ?_
        refine x_aload_n (pc' := 1238) K 1 dL_law_1237 rfl rfl ?_
        refine x_iload (pc' := 1240) K 5 dL_law_1238 rfl rfl ?_
        refine x_iconst (pc' := 1241) (v := 1) K dL_law_1240 rfl rfl ?_
        refine x_iadd (pc' := 1242) K dL_law_1241 rfl ?_
        refine x_sca (pc' := 1243) K hs9 dL_law_1242 rfl (fun x209 => ?_)
        refine x_aload_n (pc' := 1244) K 1 dL_law_1243 rfl rfl ?_
        refine x_iload (pc' := 1246) K 5 dL_law_1244 rfl rfl ?_
        refine x_iconst (pc' := 1247) (v := 2) K dL_law_1246 rfl rfl ?_
        refine x_iadd (pc' := 1248) K dL_law_1247 rfl ?_
        refine x_sca (pc' := 1249) K hs9 dL_law_1248 rfl (fun x210 => ?_)
        refine x_cV (pc' := 1252) (As := [xI x209, xI x210]) (en := (fun v => some (xI v))) (rest := []) K (fun a h1 hF => ct_X8_stroke hF) rfl (by decide) q1791 q1792 q1793 q1794 q105 hy_X8_stroke (Nat.le_of_ble_eq_true rfl) (Nat.le_of_ble_eq_true rfl) (Nat.le_of_ble_eq_true rfl) dL_law_1249 rfl (fun x211 g212 => ?_)
        refine x_istore (pc' := 1254) (lv' := [(6, xI x211), (5, xI x207), (0, xR v0), (1, xR v1), (2, xR v2), (3, xR v3), (4, xI v4)]) K dL_law_1252 rfl (by decide) rfl ?_
        refine x_aload_n (pc' := 1255) K 4 dL_law_1254 rfl rfl ?_
        refine x_cVO (pc' := 1258) (As := []) (en := (fun v => some (xI v))) (rest := []) K (fun a hF => ct_X8_thrown hF) rfl (by decide) q1455 q1456 q1457 q1458 q105 hy_X8_thrown (Nat.le_of_ble_eq_true rfl) (Nat.le_of_ble_eq_true rfl) (Nat.le_of_ble_eq_true rfl) dL_law_1255 rfl (fun x213 => ?_)
        refine x_iload (pc' := 1260) K 1 dL_law_1258 rfl rfl ?_
        refine x_icmp_eq (tgt := 1265) (pc' := 1263) K dL_law_1260 rfl (by decide) ?_ ?_
        · refine x_iload (pc' := 1267) K 1 dL_law_1265 rfl rfl ?_
          refine x_if_ne (tgt := 1282) (pc' := 1270) K dL_law_1267 rfl (by decide) ?_ ?_
          · refine x_goto (tgt := 1584) K dL_law_1282 (by decide) ?_
            refine x_iinc (pc' := 1587) (y := 6) (lv' := [(4, xI (v4 + 6)), (6, xI x211), (5, xI x207), (0, xR v0), (1, xR v1), (2, xR v2), (3, xR v3)]) K 6 dL_law_1584 rfl rfl (by decide) (by decide) rfl ?_
            refine x_goto (tgt := 23) K dL_law_1587 (by decide) ?_
            refine x_sub (lv' := [(0, xR v0), (1, xR v1), (2, xR v2), (3, xR v3), (4, xI (v4 + 6))]) [3, 4, 5, 6, 0] rfl ?_
            exact x_jump (fun hz => hj1 (v0, v1, v2, v3, (v4 + 6), g212) hz)
          · refine x_aload_n (pc' := 1271) K 5 dL_law_1270 rfl rfl ?_
            refine x_iconst (pc' := 1272) (v := 0) K dL_law_1271 rfl rfl ?_
            refine x_lald (pc' := 1273) K dL_law_1272 rfl (fun x214 => ?_)
            refine x_iload (pc' := 1275) K 0 dL_law_1273 rfl rfl ?_
            refine x_i2l (pc' := 1276) K dL_law_1275 rfl ?_
            refine x_lcmp (pc' := 1277) K dL_law_1276 rfl ?_
            refine x_if_eq (tgt := 1282) (pc' := 1280) K dL_law_1277 rfl (by decide) ?_ ?_
            · refine x_goto (tgt := 1584) K dL_law_1282 (by decide) ?_
              refine x_iinc (pc' := 1587) (y := 6) (lv' := [(4, xI (v4 + 6)), (6, xI x211), (5, xI x207), (0, xR v0), (1, xR v1), (2, xR v2), (3, xR v3)]) K 6 dL_law_1584 rfl rfl (by decide) (by decide) rfl ?_
              refine x_goto (tgt := 23) K dL_law_1587 (by decide) ?_
              refine x_sub (lv' := [(0, xR v0), (1, xR v1), (2, xR v2), (3, xR v3), (4, xI (v4 + 6))]) [3, 4, 5, 6, 0] rfl ?_
              exact x_jump (fun hz => hj1 (v0, v1, v2, v3, (v4 + 6), g212) hz)
            · refine x_iconst (pc' := 1281) (v := 0) K dL_law_1280 rfl rfl ?_
              refine x_g (fun z => Sum.inr (Sum.inr z)) (x_C (C8 := (XEndL below args s Q)) (fun z hz => hd1 z hz) ?_)
              exact x_lawret K hb9 dL_law_1281
        · refine x_iconst (pc' := 1264) (v := 0) K dL_law_1263 rfl rfl ?_
          refine x_g (fun z => Sum.inr (Sum.inr z)) (x_C (C8 := (XEndL below args s Q)) (fun z hz => hd1 z hz) ?_)
          exact x_lawret K hb9 dL_law_1264
      refine x_tsw (tgt := 1285) K 26 dL_law_40 (by decide) rfl (by decide) ?_ (fun q26 => ?_)
      · refine x_aload_n (pc' := 1286) K 1 dL_law_1285 rfl rfl ?_
        refine x_aload_n (pc' := 1287) K 0 dL_law_1286 rfl rfl ?_
        refine x_iload (pc' := 1289) K 4 dL_law_1287 rfl rfl ?_
        refine x_iconst (pc' := 1290) (v := 1) K dL_law_1289 rfl rfl ?_
        refine x_iadd (pc' := 1291) K dL_law_1290 rfl ?_
        refine x_sca (pc' := 1292) K hs9 dL_law_1291 rfl (fun x215 => ?_)
        refine x_cVO (pc' := 1295) (As := [xI x215]) (en := (fun v => some (xI v))) (rest := []) K (fun a hF => ct_X1_foreign hF) rfl (by decide) q1036 q1037 q1038 q1039 q96 hy_X1_foreign (Nat.le_of_ble_eq_true rfl) (Nat.le_of_ble_eq_true rfl) (Nat.le_of_ble_eq_true rfl) dL_law_1292 rfl (fun x216 => ?_)
        refine x_aload_n (pc' := 1296) K 2 dL_law_1295 rfl rfl ?_
        refine x_aload_n (pc' := 1297) K 0 dL_law_1296 rfl rfl ?_
        refine x_iload (pc' := 1299) K 4 dL_law_1297 rfl rfl ?_
        refine x_iconst (pc' := 1300) (v := 1) K dL_law_1299 rfl rfl ?_
        refine x_iadd (pc' := 1301) K dL_law_1300 rfl ?_
        refine x_sca (pc' := 1302) K hs9 dL_law_1301 rfl (fun x217 => ?_)
        refine x_cV (pc' := 1305) (As := [xI x217]) (en := (fun v => some (xI v))) (rest := [xI x216]) K (fun a h1 hF => ct_X8_foreign hF) rfl (by decide) q1799 q1800 q1801 q1802 q105 hy_X8_foreign (Nat.le_of_ble_eq_true rfl) (Nat.le_of_ble_eq_true rfl) (Nat.le_of_ble_eq_true rfl) dL_law_1302 rfl (fun x218 g219 => ?_)
        refine x_icmp_eq (tgt := 1584) (pc' := 1308) K dL_law_1305 rfl (by decide) ?_ ?_
        · refine x_iinc (pc' := 1587) (y := 6) (lv' := [(4, xI (v4 + 6)), (0, xR v0), (1, xR v1), (2, xR v2), (3, xR v3)]) K 4 dL_law_1584 rfl rfl (by decide) (by decide) rfl ?_
          refine x_goto (tgt := 23) K dL_law_1587 (by decide) ?_
          refine x_sub (lv' := [(0, xR v0), (1, xR v1), (2, xR v2), (3, xR v3), (4, xI (v4 + 6))]) [1, 2, 3, 4, 0] rfl ?_
          exact x_jump (fun hz => hj1 (v0, v1, v2, v3, (v4 + 6), g219) hz)
        · refine x_iconst (pc' := 1309) (v := 0) K dL_law_1308 rfl rfl ?_
          refine x_g (fun z => Sum.inr (Sum.inr z)) (x_C (C8 := (XEndL below args s Q)) (fun z hz => hd1 z hz) ?_)
          exact x_lawret K hb9 dL_law_1309
      refine x_tsw (tgt := 1310) K 27 dL_law_40 (by decide) rfl (by decide) ?_ (fun q27 => ?_)
      · refine x_aload_n (pc' := 1311) K 1 dL_law_1310 rfl rfl ?_
        refine x_aload_n (pc' := 1312) K 0 dL_law_1311 rfl rfl ?_
        refine x_iload (pc' := 1314) K 4 dL_law_1312 rfl rfl ?_
        refine x_iconst (pc' := 1315) (v := 1) K dL_law_1314 rfl rfl ?_
        refine x_iadd (pc' := 1316) K dL_law_1315 rfl ?_
        refine x_sca (pc' := 1317) K hs9 dL_law_1316 rfl (fun x220 => ?_)
        refine x_cVO (pc' := 1320) (As := [xI x220]) (en := (fun v => some (xI v))) (rest := []) K (fun a hF => ct_X1_silver hF) rfl (by decide) q1040 q1041 q1042 q1043 q96 hy_X1_silver (Nat.le_of_ble_eq_true rfl) (Nat.le_of_ble_eq_true rfl) (Nat.le_of_ble_eq_true rfl) dL_law_1317 rfl (fun x221 => ?_)
        refine x_aload_n (pc' := 1321) K 2 dL_law_1320 rfl rfl ?_
        refine x_aload_n (pc' := 1322) K 0 dL_law_1321 rfl rfl ?_
        refine x_iload (pc' := 1324) K 4 dL_law_1322 rfl rfl ?_
        refine x_iconst (pc' := 1325) (v := 1) K dL_law_1324 rfl rfl ?_
        refine x_iadd (pc' := 1326) K dL_law_1325 rfl ?_
        refine x_sca (pc' := 1327) K hs9 dL_law_1326 rfl (fun x222 => ?_)
        refine x_cV (pc' := 1330) (As := [xI x222]) (en := (fun v => some (xI v))) (rest := [xI x221]) K (fun a h1 hF => ct_X8_silver hF) rfl (by decide) q1803 q1804 q1805 q1806 q105 hy_X8_silver (Nat.le_of_ble_eq_true rfl) (Nat.le_of_ble_eq_true rfl) (Nat.le_of_ble_eq_true rfl) dL_law_1327 rfl (fun x223 g224 => ?_)
        refine x_icmp_eq (tgt := 1584) (pc' := 1333) K dL_law_1330 rfl (by decide) ?_ ?_
        · refine x_iinc (pc' := 1587) (y := 6) (lv' := [(4, xI (v4 + 6)), (0, xR v0), (1, xR v1), (2, xR v2), (3, xR v3)]) K 4 dL_law_1584 rfl rfl (by decide) (by decide) rfl ?_
          refine x_goto (tgt := 23) K dL_law_1587 (by decide) ?_
          refine x_sub (lv' := [(0, xR v0), (1, xR v1), (2, xR v2), (3, xR v3), (4, xI (v4 + 6))]) [1, 2, 3, 4, 0] rfl ?_
          exact x_jump (fun hz => hj1 (v0, v1, v2, v3, (v4 + 6), g224) hz)
        · refine x_iconst (pc' := 1334) (v := 0) K dL_law_1333 rfl rfl ?_
          refine x_g (fun z => Sum.inr (Sum.inr z)) (x_C (C8 := (XEndL below args s Q)) (fun z hz => hd1 z hz) ?_)
          exact x_lawret K hb9 dL_law_1334
      refine x_tsw (tgt := 1335) K 28 dL_law_40 (by decide) rfl (by decide) ?_ (fun q28 => ?_)
      · refine x_aload_n (pc' := 1336) K 1 dL_law_1335 rfl rfl ?_
        refine x_aload_n (pc' := 1337) K 0 dL_law_1336 rfl rfl ?_
        refine x_iload (pc' := 1339) K 4 dL_law_1337 rfl rfl ?_
        refine x_iconst (pc' := 1340) (v := 1) K dL_law_1339 rfl rfl ?_
        refine x_iadd (pc' := 1341) K dL_law_1340 rfl ?_
        refine x_sca (pc' := 1342) K hs9 dL_law_1341 rfl (fun x225 => ?_)
        refine x_aload_n (pc' := 1343) K 0 dL_law_1342 rfl rfl ?_
        refine x_iload (pc' := 1345) K 4 dL_law_1343 rfl rfl ?_
        refine x_iconst (pc' := 1346) (v := 2) K dL_law_1345 rfl rfl ?_
        refine x_iadd (pc' := 1347) K dL_law_1346 rfl ?_
        refine x_sca (pc' := 1348) K hs9 dL_law_1347 rfl (fun x226 => ?_)
        refine x_aload_n (pc' := 1349) K 0 dL_law_1348 rfl rfl ?_
        refine x_iload (pc' := 1351) K 4 dL_law_1349 rfl rfl ?_
        refine x_iconst (pc' := 1352) (v := 3) K dL_law_1351 rfl rfl ?_
        refine x_iadd (pc' := 1353) K dL_law_1352 rfl ?_
        refine x_sca (pc' := 1354) K hs9 dL_law_1353 rfl (fun x227 => ?_)
        refine x_cV (pc' := 1357) (As := [xI x225, xI x226, xI x227]) (en := (fun v => some (xI v))) (rest := []) K (fun a h1 hF => ct_X1_rows hF) rfl (by decide) q1044 q1045 q1046 q1047 q96 hy_X1_rows (Nat.le_of_ble_eq_true rfl) (Nat.le_of_ble_eq_true rfl) (Nat.le_of_ble_eq_true rfl) dL_law_1354 rfl (fun x228 g229 => ?_)
        refine x_aload_n (pc' := 1358) K 2 dL_law_1357 rfl rfl ?_
        refine x_aload_n (pc' := 1359) K 0 dL_law_1358 rfl rfl ?_
        refine x_iload (pc' := 1361) K 4 dL_law_1359 rfl rfl ?_
        refine x_iconst (pc' := 1362) (v := 1) K dL_law_1361 rfl rfl ?_
        refine x_iadd (pc' := 1363) K dL_law_1362 rfl ?_
        refine x_sca (pc' := 1364) K hs9 dL_law_1363 rfl (fun x230 => ?_)
        refine x_aload_n (pc' := 1365) K 0 dL_law_1364 rfl rfl ?_
        refine x_iload (pc' := 1367) K 4 dL_law_1365 rfl rfl ?_
        refine x_iconst (pc' := 1368) (v := 2) K dL_law_1367 rfl rfl ?_
        refine x_iadd (pc' := 1369) K dL_law_1368 rfl ?_
        refine x_sca (pc' := 1370) K hs9 dL_law_1369 rfl (fun x231 => ?_)
        refine x_aload_n (pc' := 1371) K 0 dL_law_1370 rfl rfl ?_
        refine x_iload (pc' := 1373) K 4 dL_law_1371 rfl rfl ?_
        refine x_iconst (pc' := 1374) (v := 3) K dL_law_1373 rfl rfl ?_
        refine x_iadd (pc' := 1375) K dL_law_1374 rfl ?_
        refine x_sca (pc' := 1376) K hs9 dL_law_1375 rfl (fun x232 => ?_)
        refine x_cV (pc' := 1379) (As := [xI x230, xI x231, xI x232]) (en := (fun v => some (xI v))) (rest := [xI x228]) K (fun a h1 hF => ct_X8_rows hF) rfl (by decide) q1807 q1808 q1809 q1810 q105 hy_X8_rows (Nat.le_of_ble_eq_true rfl) (Nat.le_of_ble_eq_true rfl) (Nat.le_of_ble_eq_true rfl) dL_law_1376 rfl (fun x233 g234 => ?_)
        refine x_icmp_eq (tgt := 1584) (pc' := 1382) K dL_law_1379 rfl (by decide) ?_ ?_
        · refine x_iinc (pc' := 1587) (y := 6) (lv' := [(4, xI (v4 + 6)), (0, xR v0), (1, xR v1), (2, xR v2), (3, xR v3)]) K 4 dL_law_1584 rfl rfl (by decide) (by decide) rfl ?_
          refine x_goto (tgt := 23) K dL_law_1587 (by decide) ?_
          refine x_sub (lv' := [(0, xR v0), (1, xR v1), (2, xR v2), (3, xR v3), (4, xI (v4 + 6))]) [1, 2, 3, 4, 0] rfl ?_
          exact x_jump (fun hz => hj1 (v0, v1, v2, v3, (v4 + 6), g234) hz)
        · refine x_iconst (pc' := 1383) (v := 0) K dL_law_1382 rfl rfl ?_
          refine x_g (fun z => Sum.inr (Sum.inr z)) (x_C (C8 := (XEndL below args s Q)) (fun z hz => hd1 z hz) ?_)
          exact x_lawret K hb9 dL_law_1383
      refine x_tsw (tgt := 1384) K 29 dL_law_40 (by decide) rfl (by decide) ?_ (fun q29 => ?_)
      · refine x_aload_n (pc' := 1385) K 1 dL_law_1384 rfl rfl ?_
        refine x_aload_n (pc' := 1386) K 0 dL_law_1385 rfl rfl ?_
        refine x_iload (pc' := 1388) K 4 dL_law_1386 rfl rfl ?_
        refine x_iconst (pc' := 1389) (v := 1) K dL_law_1388 rfl rfl ?_
        refine x_iadd (pc' := 1390) K dL_law_1389 rfl ?_
        refine x_sca (pc' := 1391) K hs9 dL_law_1390 rfl (fun x235 => ?_)
        refine x_aload_n (pc' := 1392) K 0 dL_law_1391 rfl rfl ?_
        refine x_iload (pc' := 1394) K 4 dL_law_1392 rfl rfl ?_
        refine x_iconst (pc' := 1395) (v := 2) K dL_law_1394 rfl rfl ?_
        refine x_iadd (pc' := 1396) K dL_law_1395 rfl ?_
        refine x_sca (pc' := 1397) K hs9 dL_law_1396 rfl (fun x236 => ?_)
        refine x_cVO (pc' := 1400) (As := [xI x235, xI x236]) (en := (fun v => some (xI v))) (rest := []) K (fun a hF => ct_X1_could hF) rfl (by decide) q1061 q1062 q1063 q1064 q96 hy_X1_could (Nat.le_of_ble_eq_true rfl) (Nat.le_of_ble_eq_true rfl) (Nat.le_of_ble_eq_true rfl) dL_law_1397 rfl (fun x237 => ?_)
        refine x_aload_n (pc' := 1401) K 2 dL_law_1400 rfl rfl ?_
        refine x_aload_n (pc' := 1402) K 0 dL_law_1401 rfl rfl ?_
        refine x_iload (pc' := 1404) K 4 dL_law_1402 rfl rfl ?_
        refine x_iconst (pc' := 1405) (v := 1) K dL_law_1404 rfl rfl ?_
        refine x_iadd (pc' := 1406) K dL_law_1405 rfl ?_
        refine x_sca (pc' := 1407) K hs9 dL_law_1406 rfl (fun x238 => ?_)
        refine x_aload_n (pc' := 1408) K 0 dL_law_1407 rfl rfl ?_
        refine x_iload (pc' := 1410) K 4 dL_law_1408 rfl rfl ?_
        refine x_iconst (pc' := 1411) (v := 2) K dL_law_1410 rfl rfl ?_
        refine x_iadd (pc' := 1412) K dL_law_1411 rfl ?_
        refine x_sca (pc' := 1413) K hs9 dL_law_1412 rfl (fun x239 => ?_)
        refine x_cV (pc' := 1416) (As := [xI x238, xI x239]) (en := (fun v => some (xI v))) (rest := [xI x237]) K (fun a h1 hF => ct_X8_could hF) rfl (by decide) q1820 q1821 q1822 q1823 q105 hy_X8_could (Nat.le_of_ble_eq_true rfl) (Nat.le_of_ble_eq_true rfl) (Nat.le_of_ble_eq_true rfl) dL_law_1413 rfl (fun x240 g241 => ?_)
        refine x_icmp_eq (tgt := 1584) (pc' := 1419) K dL_law_1416 rfl (by decide) ?_ ?_
        · refine x_iinc (pc' := 1587) (y := 6) (lv' := [(4, xI (v4 + 6)), (0, xR v0), (1, xR v1), (2, xR v2), (3, xR v3)]) K 4 dL_law_1584 rfl rfl (by decide) (by decide) rfl ?_
          refine x_goto (tgt := 23) K dL_law_1587 (by decide) ?_
          refine x_sub (lv' := [(0, xR v0), (1, xR v1), (2, xR v2), (3, xR v3), (4, xI (v4 + 6))]) [1, 2, 3, 4, 0] rfl ?_
          exact x_jump (fun hz => hj1 (v0, v1, v2, v3, (v4 + 6), g241) hz)
        · refine x_iconst (pc' := 1420) (v := 0) K dL_law_1419 rfl rfl ?_
          refine x_g (fun z => Sum.inr (Sum.inr z)) (x_C (C8 := (XEndL below args s Q)) (fun z hz => hd1 z hz) ?_)
          exact x_lawret K hb9 dL_law_1420
      refine x_tsw (tgt := 1421) K 30 dL_law_40 (by decide) rfl (by decide) ?_ (fun q30 => ?_)
      · refine x_aload_n (pc' := 1422) K 1 dL_law_1421 rfl rfl ?_
        refine x_aload_n (pc' := 1423) K 0 dL_law_1422 rfl rfl ?_
        refine x_iload (pc' := 1425) K 4 dL_law_1423 rfl rfl ?_
        refine x_iconst (pc' := 1426) (v := 1) K dL_law_1425 rfl rfl ?_
        refine x_iadd (pc' := 1427) K dL_law_1426 rfl ?_
        refine x_sca (pc' := 1428) K hs9 dL_law_1427 rfl (fun x242 => ?_)
        refine x_aload_n (pc' := 1429) K 0 dL_law_1428 rfl rfl ?_
        refine x_iload (pc' := 1431) K 4 dL_law_1429 rfl rfl ?_
        refine x_iconst (pc' := 1432) (v := 2) K dL_law_1431 rfl rfl ?_
        refine x_iadd (pc' := 1433) K dL_law_1432 rfl ?_
        refine x_sca (pc' := 1434) K hs9 dL_law_1433 rfl (fun x243 => ?_)
        refine x_cV (pc' := 1437) (As := [xI x242, xI x243]) (en := (fun v => some (xI v))) (rest := []) K (fun a h1 hF => ct_X1_market hF) rfl (by decide) q1065 q1066 q1067 q1068 q96 hy_X1_market (Nat.le_of_ble_eq_true rfl) (Nat.le_of_ble_eq_true rfl) (Nat.le_of_ble_eq_true rfl) dL_law_1434 rfl (fun x244 g245 => ?_)
        refine x_aload_n (pc' := 1438) K 2 dL_law_1437 rfl rfl ?_
        refine x_aload_n (pc' := 1439) K 0 dL_law_1438 rfl rfl ?_
        refine x_iload (pc' := 1441) K 4 dL_law_1439 rfl rfl ?_
        refine x_iconst (pc' := 1442) (v := 1) K dL_law_1441 rfl rfl ?_
        refine x_iadd (pc' := 1443) K dL_law_1442 rfl ?_
        refine x_sca (pc' := 1444) K hs9 dL_law_1443 rfl (fun x246 => ?_)
        refine x_aload_n (pc' := 1445) K 0 dL_law_1444 rfl rfl ?_
        refine x_iload (pc' := 1447) K 4 dL_law_1445 rfl rfl ?_
        refine x_iconst (pc' := 1448) (v := 2) K dL_law_1447 rfl rfl ?_
        refine x_iadd (pc' := 1449) K dL_law_1448 rfl ?_
        refine x_sca (pc' := 1450) K hs9 dL_law_1449 rfl (fun x247 => ?_)
        refine x_cV (pc' := 1453) (As := [xI x246, xI x247]) (en := (fun v => some (xI v))) (rest := [xI x244]) K (fun a h1 hF => ct_X8_market hF) rfl (by decide) q1824 q1825 q1826 q1827 q105 hy_X8_market (Nat.le_of_ble_eq_true rfl) (Nat.le_of_ble_eq_true rfl) (Nat.le_of_ble_eq_true rfl) dL_law_1450 rfl (fun x248 g249 => ?_)
        refine x_icmp_eq (tgt := 1584) (pc' := 1456) K dL_law_1453 rfl (by decide) ?_ ?_
        · refine x_iinc (pc' := 1587) (y := 6) (lv' := [(4, xI (v4 + 6)), (0, xR v0), (1, xR v1), (2, xR v2), (3, xR v3)]) K 4 dL_law_1584 rfl rfl (by decide) (by decide) rfl ?_
          refine x_goto (tgt := 23) K dL_law_1587 (by decide) ?_
          refine x_sub (lv' := [(0, xR v0), (1, xR v1), (2, xR v2), (3, xR v3), (4, xI (v4 + 6))]) [1, 2, 3, 4, 0] rfl ?_
          exact x_jump (fun hz => hj1 (v0, v1, v2, v3, (v4 + 6), g249) hz)
        · refine x_iconst (pc' := 1457) (v := 0) K dL_law_1456 rfl rfl ?_
          refine x_g (fun z => Sum.inr (Sum.inr z)) (x_C (C8 := (XEndL below args s Q)) (fun z hz => hd1 z hz) ?_)
          exact x_lawret K hb9 dL_law_1457
      refine x_tsw (tgt := 1458) K 31 dL_law_40 (by decide) rfl (by decide) ?_ (fun q31 => ?_)
      · refine x_aload_n (pc' := 1459) K 1 dL_law_1458 rfl rfl ?_
        refine x_cV (pc' := 1462) (As := []) (en := (fun v => some (xI v))) (rest := []) K (fun a h1 hF => ct_X1_undo hF) rfl (by decide) q852 q853 q854 q855 q96 hy_X1_undo (Nat.le_of_ble_eq_true rfl) (Nat.le_of_ble_eq_true rfl) (Nat.le_of_ble_eq_true rfl) dL_law_1459 rfl (fun x250 g251 => ?_)
        refine x_aload_n (pc' := 1463) K 2 dL_law_1462 rfl rfl ?_
        refine x_cV (pc' := 1466) (As := []) (en := (fun v => some (xI v))) (rest := [xI x250]) K (fun a h1 hF => ct_X8_undo hF) rfl (by decide) q1833 q1834 q1835 q1836 q105 hy_X8_undo (Nat.le_of_ble_eq_true rfl) (Nat.le_of_ble_eq_true rfl) (Nat.le_of_ble_eq_true rfl) dL_law_1463 rfl (fun x252 g253 => ?_)
        refine x_icmp_eq (tgt := 1584) (pc' := 1469) K dL_law_1466 rfl (by decide) ?_ ?_
        · refine x_iinc (pc' := 1587) (y := 6) (lv' := [(4, xI (v4 + 6)), (0, xR v0), (1, xR v1), (2, xR v2), (3, xR v3)]) K 4 dL_law_1584 rfl rfl (by decide) (by decide) rfl ?_
          refine x_goto (tgt := 23) K dL_law_1587 (by decide) ?_
          refine x_sub (lv' := [(0, xR v0), (1, xR v1), (2, xR v2), (3, xR v3), (4, xI (v4 + 6))]) [1, 2, 3, 4, 0] rfl ?_
          exact x_jump (fun hz => hj1 (v0, v1, v2, v3, (v4 + 6), g253) hz)
        · refine x_iconst (pc' := 1470) (v := 0) K dL_law_1469 rfl rfl ?_
          refine x_g (fun z => Sum.inr (Sum.inr z)) (x_C (C8 := (XEndL below args s Q)) (fun z hz => hd1 z hz) ?_)
          exact x_lawret K hb9 dL_law_1470
      refine x_tsw (tgt := 1471) K 32 dL_law_40 (by decide) rfl (by decide) ?_ (fun q32 => ?_)
      · refine x_aload_n (pc' := 1472) K 1 dL_law_1471 rfl rfl ?_
        refine x_cVW (pc' := 1475) (As := []) (en := (fun v => some (xI v))) (rest := []) K (fun a h1 hF => ct_X1_sentence hF) rfl (by decide) q1075 q1076 q1077 q1078 q96 hy_X1_sentence (Nat.le_of_ble_eq_true rfl) (Nat.le_of_ble_eq_true rfl) (Nat.le_of_ble_eq_true rfl) dL_law_1472 rfl (fun x254 g255 => ?_)
        refine x_aload_n (pc' := 1476) K 2 dL_law_1475 rfl rfl ?_
        refine x_cV (pc' := 1479) (As := []) (en := (fun v => some (xI v))) (rest := [xI x254]) K (fun a h1 hF => ct_X8_sentence hF) rfl (by decide) q1837 q1838 q1839 q1840 q105 hy_X8_sentence (Nat.le_of_ble_eq_true rfl) (Nat.le_of_ble_eq_true rfl) (Nat.le_of_ble_eq_true rfl) dL_law_1476 rfl (fun x256 g257 => ?_)
        refine x_icmp_eq (tgt := 1584) (pc' := 1482) K dL_law_1479 rfl (by decide) ?_ ?_
        · refine x_iinc (pc' := 1587) (y := 6) (lv' := [(4, xI (v4 + 6)), (0, xR v0), (1, xR v1), (2, xR v2), (3, xR v3)]) K 4 dL_law_1584 rfl rfl (by decide) (by decide) rfl ?_
          refine x_goto (tgt := 23) K dL_law_1587 (by decide) ?_
          refine x_sub (lv' := [(0, xR v0), (1, xR v1), (2, xR v2), (3, xR v3), (4, xI (v4 + 6))]) [1, 2, 3, 4, 0] rfl ?_
          exact x_jump (fun hz => hj1 (v0, v1, v2, v3, (v4 + 6), g257) hz)
        · refine x_iconst (pc' := 1483) (v := 0) K dL_law_1482 rfl rfl ?_
          refine x_g (fun z => Sum.inr (Sum.inr z)) (x_C (C8 := (XEndL below args s Q)) (fun z hz => hd1 z hz) ?_)
          exact x_lawret K hb9 dL_law_1483
      refine x_tsw (tgt := 1484) K 33 dL_law_40 (by decide) rfl (by decide) ?_ (fun q33 => ?_)
      · refine x_aload_n (pc' := 1485) K 1 dL_law_1484 rfl rfl ?_
        refine x_aload_n (pc' := 1486) K 0 dL_law_1485 rfl rfl ?_
        refine x_iload (pc' := 1488) K 4 dL_law_1486 rfl rfl ?_
        refine x_iconst (pc' := 1489) (v := 1) K dL_law_1488 rfl rfl ?_
        refine x_iadd (pc' := 1490) K dL_law_1489 rfl ?_
        refine x_sca (pc' := 1491) K hs9 dL_law_1490 rfl (fun x258 => ?_)
        refine x_cVO (pc' := 1494) (As := [xI x258]) (en := (fun v => some (xI v))) (rest := []) K (fun a hF => ct_X1_said hF) rfl (by decide) q1191 q1192 q1193 q1194 q96 hy_X1_said (Nat.le_of_ble_eq_true rfl) (Nat.le_of_ble_eq_true rfl) (Nat.le_of_ble_eq_true rfl) dL_law_1491 rfl (fun x259 => ?_)
        refine x_aload_n (pc' := 1495) K 2 dL_law_1494 rfl rfl ?_
        refine x_aload_n (pc' := 1496) K 0 dL_law_1495 rfl rfl ?_
        refine x_iload (pc' := 1498) K 4 dL_law_1496 rfl rfl ?_
        refine x_iconst (pc' := 1499) (v := 1) K dL_law_1498 rfl rfl ?_
        refine x_iadd (pc' := 1500) K dL_law_1499 rfl ?_
        refine x_sca (pc' := 1501) K hs9 dL_law_1500 rfl (fun x260 => ?_)
        refine x_cV (pc' := 1504) (As := [xI x260]) (en := (fun v => some (xI v))) (rest := [xI x259]) K (fun a h1 hF => ct_X8_said hF) rfl (by decide) q1873 q1874 q1875 q1876 q105 hy_X8_said (Nat.le_of_ble_eq_true rfl) (Nat.le_of_ble_eq_true rfl) (Nat.le_of_ble_eq_true rfl) dL_law_1501 rfl (fun x261 g262 => ?_)
        refine x_icmp_eq (tgt := 1584) (pc' := 1507) K dL_law_1504 rfl (by decide) ?_ ?_
        · refine x_iinc (pc' := 1587) (y := 6) (lv' := [(4, xI (v4 + 6)), (0, xR v0), (1, xR v1), (2, xR v2), (3, xR v3)]) K 4 dL_law_1584 rfl rfl (by decide) (by decide) rfl ?_
          refine x_goto (tgt := 23) K dL_law_1587 (by decide) ?_
          refine x_sub (lv' := [(0, xR v0), (1, xR v1), (2, xR v2), (3, xR v3), (4, xI (v4 + 6))]) [1, 2, 3, 4, 0] rfl ?_
          exact x_jump (fun hz => hj1 (v0, v1, v2, v3, (v4 + 6), g262) hz)
        · refine x_iconst (pc' := 1508) (v := 0) K dL_law_1507 rfl rfl ?_
          refine x_g (fun z => Sum.inr (Sum.inr z)) (x_C (C8 := (XEndL below args s Q)) (fun z hz => hd1 z hz) ?_)
          exact x_lawret K hb9 dL_law_1508
      refine x_tsw (tgt := 1509) K 34 dL_law_40 (by decide) rfl (by decide) ?_ (fun q34 => ?_)
      · refine x_aload_n (pc' := 1510) K 1 dL_law_1509 rfl rfl ?_
        refine x_aload_n (pc' := 1511) K 0 dL_law_1510 rfl rfl ?_
        refine x_iload (pc' := 1513) K 4 dL_law_1511 rfl rfl ?_
        refine x_iconst (pc' := 1514) (v := 1) K dL_law_1513 rfl rfl ?_
        refine x_iadd (pc' := 1515) K dL_law_1514 rfl ?_
        refine x_sca (pc' := 1516) K hs9 dL_law_1515 rfl (fun x263 => ?_)
        refine x_cV (pc' := 1519) (As := [xI x263]) (en := (fun v => some (xI v))) (rest := []) K (fun a h1 hF => ct_X1_image hF) rfl (by decide) q1226 q1227 q1228 q1229 q96 hy_X1_image (Nat.le_of_ble_eq_true rfl) (Nat.le_of_ble_eq_true rfl) (Nat.le_of_ble_eq_true rfl) dL_law_1516 rfl (fun x264 g265 => ?_)
        refine x_aload_n (pc' := 1520) K 2 dL_law_1519 rfl rfl ?_
        refine x_aload_n (pc' := 1521) K 0 dL_law_1520 rfl rfl ?_
        refine x_iload (pc' := 1523) K 4 dL_law_1521 rfl rfl ?_
        refine x_iconst (pc' := 1524) (v := 1) K dL_law_1523 rfl rfl ?_
        refine x_iadd (pc' := 1525) K dL_law_1524 rfl ?_
        refine x_sca (pc' := 1526) K hs9 dL_law_1525 rfl (fun x266 => ?_)
        refine x_cV (pc' := 1529) (As := [xI x266]) (en := (fun v => some (xI v))) (rest := [xI x264]) K (fun a h1 hF => ct_X8_image hF) rfl (by decide) q1885 q1886 q1887 q1888 q105 hy_X8_image (Nat.le_of_ble_eq_true rfl) (Nat.le_of_ble_eq_true rfl) (Nat.le_of_ble_eq_true rfl) dL_law_1526 rfl (fun x267 g268 => ?_)
        refine x_icmp_eq (tgt := 1584) (pc' := 1532) K dL_law_1529 rfl (by decide) ?_ ?_
        · refine x_iinc (pc' := 1587) (y := 6) (lv' := [(4, xI (v4 + 6)), (0, xR v0), (1, xR v1), (2, xR v2), (3, xR v3)]) K 4 dL_law_1584 rfl rfl (by decide) (by decide) rfl ?_
          refine x_goto (tgt := 23) K dL_law_1587 (by decide) ?_
          refine x_sub (lv' := [(0, xR v0), (1, xR v1), (2, xR v2), (3, xR v3), (4, xI (v4 + 6))]) [1, 2, 3, 4, 0] rfl ?_
          exact x_jump (fun hz => hj1 (v0, v1, v2, v3, (v4 + 6), g268) hz)
        · refine x_iconst (pc' := 1533) (v := 0) K dL_law_1532 rfl rfl ?_
          refine x_g (fun z => Sum.inr (Sum.inr z)) (x_C (C8 := (XEndL below args s Q)) (fun z hz => hd1 z hz) ?_)
          exact x_lawret K hb9 dL_law_1533
      refine x_tsw (tgt := 1534) K 35 dL_law_40 (by decide) rfl (by decide) ?_ (fun q35 => ?_)
      · refine x_aload_n (pc' := 1535) K 1 dL_law_1534 rfl rfl ?_
        refine x_aload_n (pc' := 1536) K 0 dL_law_1535 rfl rfl ?_
        refine x_iload (pc' := 1538) K 4 dL_law_1536 rfl rfl ?_
        refine x_iconst (pc' := 1539) (v := 1) K dL_law_1538 rfl rfl ?_
        refine x_iadd (pc' := 1540) K dL_law_1539 rfl ?_
        refine x_sca (pc' := 1541) K hs9 dL_law_1540 rfl (fun x269 => ?_)
        refine x_cV (pc' := 1544) (As := [xI x269]) (en := (fun v => some (xI v))) (rest := []) K (fun a h1 hF => ct_X1_restore hF) rfl (by decide) q1230 q1231 q1232 q1233 q96 hy_X1_restore (Nat.le_of_ble_eq_true rfl) (Nat.le_of_ble_eq_true rfl) (Nat.le_of_ble_eq_true rfl) dL_law_1541 rfl (fun x270 g271 => ?_)
        refine x_aload_n (pc' := 1545) K 2 dL_law_1544 rfl rfl ?_
        refine x_aload_n (pc' := 1546) K 0 dL_law_1545 rfl rfl ?_
        refine x_iload (pc' := 1548) K 4 dL_law_1546 rfl rfl ?_
        refine x_iconst (pc' := 1549) (v := 1) K dL_law_1548 rfl rfl ?_
        refine x_iadd (pc' := 1550) K dL_law_1549 rfl ?_
        refine x_sca (pc' := 1551) K hs9 dL_law_1550 rfl (fun x272 => ?_)
        refine x_cV (pc' := 1554) (As := [xI x272]) (en := (fun v => some (xI v))) (rest := [xI x270]) K (fun a h1 hF => ct_X8_restore hF) rfl (by decide) q1889 q1890 q1891 q1892 q105 hy_X8_restore (Nat.le_of_ble_eq_true rfl) (Nat.le_of_ble_eq_true rfl) (Nat.le_of_ble_eq_true rfl) dL_law_1551 rfl (fun x273 g274 => ?_)
        refine x_icmp_eq (tgt := 1584) (pc' := 1557) K dL_law_1554 rfl (by decide) ?_ ?_
        · refine x_iinc (pc' := 1587) (y := 6) (lv' := [(4, xI (v4 + 6)), (0, xR v0), (1, xR v1), (2, xR v2), (3, xR v3)]) K 4 dL_law_1584 rfl rfl (by decide) (by decide) rfl ?_
          refine x_goto (tgt := 23) K dL_law_1587 (by decide) ?_
          refine x_sub (lv' := [(0, xR v0), (1, xR v1), (2, xR v2), (3, xR v3), (4, xI (v4 + 6))]) [1, 2, 3, 4, 0] rfl ?_
          exact x_jump (fun hz => hj1 (v0, v1, v2, v3, (v4 + 6), g274) hz)
        · refine x_iconst (pc' := 1558) (v := 0) K dL_law_1557 rfl rfl ?_
          refine x_g (fun z => Sum.inr (Sum.inr z)) (x_C (C8 := (XEndL below args s Q)) (fun z hz => hd1 z hz) ?_)
          exact x_lawret K hb9 dL_law_1558
      refine x_tsw (tgt := 1559) K 36 dL_law_40 (by decide) rfl (by decide) ?_ (fun q36 => ?_)
      · refine x_aload_n (pc' := 1560) K 1 dL_law_1559 rfl rfl ?_
        refine x_aload_n (pc' := 1561) K 0 dL_law_1560 rfl rfl ?_
        refine x_iload (pc' := 1563) K 4 dL_law_1561 rfl rfl ?_
        refine x_iconst (pc' := 1564) (v := 1) K dL_law_1563 rfl rfl ?_
        refine x_iadd (pc' := 1565) K dL_law_1564 rfl ?_
        refine x_sca (pc' := 1566) K hs9 dL_law_1565 rfl (fun x275 => ?_)
        refine x_cVO (pc' := 1569) (As := [xI x275]) (en := (fun v => some (xI v))) (rest := []) K (fun a hF => ct_X1_count hF) rfl (by decide) q1234 q1235 q1236 q1237 q96 hy_X1_count (Nat.le_of_ble_eq_true rfl) (Nat.le_of_ble_eq_true rfl) (Nat.le_of_ble_eq_true rfl) dL_law_1566 rfl (fun x276 => ?_)
        refine x_aload_n (pc' := 1570) K 2 dL_law_1569 rfl rfl ?_
        refine x_aload_n (pc' := 1571) K 0 dL_law_1570 rfl rfl ?_
        refine x_iload (pc' := 1573) K 4 dL_law_1571 rfl rfl ?_
        refine x_iconst (pc' := 1574) (v := 1) K dL_law_1573 rfl rfl ?_
        refine x_iadd (pc' := 1575) K dL_law_1574 rfl ?_
        refine x_sca (pc' := 1576) K hs9 dL_law_1575 rfl (fun x277 => ?_)
        refine x_cV (pc' := 1579) (As := [xI x277]) (en := (fun v => some (xI v))) (rest := [xI x276]) K (fun a h1 hF => ct_X8_count hF) rfl (by decide) q1893 q1894 q1895 q1896 q105 hy_X8_count (Nat.le_of_ble_eq_true rfl) (Nat.le_of_ble_eq_true rfl) (Nat.le_of_ble_eq_true rfl) dL_law_1576 rfl (fun x278 g279 => ?_)
        refine x_icmp_eq (tgt := 1584) (pc' := 1582) K dL_law_1579 rfl (by decide) ?_ ?_
        · refine x_iinc (pc' := 1587) (y := 6) (lv' := [(4, xI (v4 + 6)), (0, xR v0), (1, xR v1), (2, xR v2), (3, xR v3)]) K 4 dL_law_1584 rfl rfl (by decide) (by decide) rfl ?_
          refine x_goto (tgt := 23) K dL_law_1587 (by decide) ?_
          refine x_sub (lv' := [(0, xR v0), (1, xR v1), (2, xR v2), (3, xR v3), (4, xI (v4 + 6))]) [1, 2, 3, 4, 0] rfl ?_
          exact x_jump (fun hz => hj1 (v0, v1, v2, v3, (v4 + 6), g279) hz)
        · refine x_iconst (pc' := 1583) (v := 0) K dL_law_1582 rfl rfl ?_
          refine x_g (fun z => Sum.inr (Sum.inr z)) (x_C (C8 := (XEndL below args s Q)) (fun z hz => hd1 z hz) ?_)
          exact x_lawret K hb9 dL_law_1583
      refine x_tsw0 (tgt := 1584) K dL_law_40 (xout_ok (xout_s (xout_s (xout_s (xout_s (xout_s (xout_s (xout_s (xout_s (xout_s (xout_s (xout_s (xout_s (xout_s (xout_s (xout_s (xout_s (xout_s (xout_s (xout_s (xout_s (xout_s (xout_s (xout_s (xout_s (xout_s (xout_s (xout_s (xout_s (xout_s (xout_s (xout_s (xout_s (xout_s (xout_s (xout_s (xout_s (xout_s xout_0 (by decide) q0) (by decide) q1) (by decide) q2) (by decide) q3) (by decide) q4) (by decide) q5) (by decide) q6) (by decide) q7) (by decide) q8) (by decide) q9) (by decide) q10) (by decide) q11) (by decide) q12) (by decide) q13) (by decide) q14) (by decide) q15) (by decide) q16) (by decide) q17) (by decide) q18) (by decide) q19) (by decide) q20) (by decide) q21) (by decide) q22) (by decide) q23) (by decide) q24) (by decide) q25) (by decide) q26) (by decide) q27) (by decide) q28) (by decide) q29) (by decide) q30) (by decide) q31) (by decide) q32) (by decide) q33) (by decide) q34) (by decide) q35) (by decide) q36) (by decide)) (by decide) ?_
      refine x_iinc (pc' := 1587) (y := 6) (lv' := [(4, xI (v4 + 6)), (0, xR v0), (1, xR v1), (2, xR v2), (3, xR v3)]) K 4 dL_law_1584 rfl rfl (by decide) (by decide) rfl ?_
      refine x_goto (tgt := 23) K dL_law_1587 (by decide) ?_
      refine x_sub (lv' := [(0, xR v0), (1, xR v1), (2, xR v2), (3, xR v3), (4, xI (v4 + 6))]) [1, 2, 3, 4, 0] rfl ?_
      exact x_jump (fun hz => hj1 (v0, v1, v2, v3, (v4 + 6), g) hz)
  have hA1590_0 : ∀  (g : AH), XF p l e R s m args below meth c D 7 h0 Q 1590 [] [] g (fL_law_a1590 g) (XEndL below args s Q) := by
    intro  g
    unfold fL_law_a1590
    refine x_iconst (pc' := 1591) (v := 1) K dL_law_1590 rfl rfl ?_
    exact x_lawret K hb9 dL_law_1591
  unfold fL_law
  refine x_new (pc' := 3) K (by decide) q123 q124 q96 dL_law_0 rfl (fun x1 g2 => ?_)
  refine x_dup (pc' := 4) K dL_law_3 rfl rfl ?_
  refine x_cI (pc' := 7) (As := []) (en := (fun _ => none)) (rest := [xR x1]) K (fun a h1 hF => ct_X1_init hF) rfl (by decide) q125 rfl q126 q127 q96 hy_X1_init (Nat.le_of_ble_eq_true rfl) (Nat.le_of_ble_eq_true rfl) (Nat.le_of_ble_eq_true rfl) dL_law_4 rfl (fun x_ g3 => ?_)
  refine x_astore_n (pc' := 8) (lv' := [(1, xR x1), (0, xR v0)]) K dL_law_7 rfl (by decide) rfl ?_
  refine x_new (pc' := 11) K (by decide) q1305 q1306 q105 dL_law_8 rfl (fun x4 g5 => ?_)
  refine x_dup (pc' := 12) K dL_law_11 rfl rfl ?_
  refine x_cI (pc' := 15) (As := []) (en := (fun _ => none)) (rest := [xR x4]) K (fun a h1 hF => ct_X8_init hF) rfl (by decide) q1307 rfl q1308 q1309 q105 hy_X8_init (Nat.le_of_ble_eq_true rfl) (Nat.le_of_ble_eq_true rfl) (Nat.le_of_ble_eq_true rfl) dL_law_12 rfl (fun x_ g6 => ?_)
  refine x_astore_n (pc' := 16) (lv' := [(2, xR x4), (1, xR x1), (0, xR v0)]) K dL_law_15 rfl (by decide) rfl ?_
  refine x_iconst (pc' := 17) (v := 1) K dL_law_16 rfl rfl ?_
  refine x_jarr (pc' := 19) K q1454 dL_law_17 rfl (fun x7 g8 => ?_)
  refine x_astore_n (pc' := 20) (lv' := [(3, xR x7), (2, xR x4), (1, xR x1), (0, xR v0)]) K dL_law_19 rfl (by decide) rfl ?_
  refine x_iconst (pc' := 21) (v := 0) K dL_law_20 rfl rfl ?_
  refine x_istore (pc' := 23) (lv' := [(4, xI (0 : Int32)), (3, xR x7), (2, xR x4), (1, xR x1), (0, xR v0)]) K dL_law_21 rfl (by decide) rfl ?_
  refine x_sub (lv' := [(0, xR v0), (1, xR x1), (2, xR x4), (3, xR x7), (4, xI (0 : Int32))]) [4, 3, 2, 1, 0] rfl ?_
  exact x_loop (pl := (fun s9 : (Nat × Nat × Nat × Nat × Int32 × AH) => [(0, xR s9.1), (1, xR s9.2.1), (2, xR s9.2.2.1), (3, xR s9.2.2.2.1), (4, xI s9.2.2.2.2.1)])) (ph := (fun s9 : (Nat × Nat × Nat × Nat × Int32 × AH) => s9.2.2.2.2.2)) (Sum.elim (fun r9 : AH => XG p l e R s m args below meth c D 7 h0 Q 1590 [] [] r9) (XEndL below args s Q)) (fun s9 => hL23 _ (fun _ hz => hz) (fun _ hz => hz) (fun _ hz => hz) s9.1 s9.2.1 s9.2.2.1 s9.2.2.2.1 s9.2.2.2.2.1 s9.2.2.2.2.2) (x_ex2 (fun r9 x hx hc => hA1590_0 r9 x hx hc)) (v0, x1, x4, x7, (0 : Int32), g8)
